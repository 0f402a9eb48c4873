/-! DownRopeModel: seek (written by gen/m3.py) -/
set_option maxRecDepth 100000
set_option maxHeartbeats 4000000 in
theorem m_seekM0 (l : Launch) (G : va_G) (am : Nat → Nat) (ty : Nat → ClassId) (τ ρ : mem) (cs : va_W)  (F : mem) (hF : okF F) (hSm : Sim F τ) (hSt : wfS (ρ 27) (ρ 28)) (hZ : zerF F) : cM l yX12_seek (ws_ yX12_seek cX12_seek 10 none) (rm4 3 0 0 81) G ty (wM am ty τ ρ ++ cs) [.ref (am 0), .int (ii 0)] 0 0 (fun r W' => ∃ (wT : Int → Int) (qT : Int → Int) (gm : Int → Int) (nm : Int) (la : Int → Int) (me : Int → Int) (n8 : Int) (qu : Int → Int) (qd : Int → Int), r = none ∧ W' = wM am ty τ (up (up (up (up (up (up (up (up (up ρ 27 wT) 28 qT) 29 gm) 30 (sc (nm))) 31 la) 32 me) 33 (sc (n8))) 34 qu) 35 qd) ++ cs ∧ (wfS wT qT) ∧ (Sought (EF F) (cdv (F 6) (F 7)) la me n8) ∧ (LL (cand F) gm nm 70000) ∧ (0 ≤ nm ∧ nm ≤ 2400)) := by
  refine cM.of (by decide) (Nat.le_of_ble_eq_true rfl) ?_
  intro p e s m args below meth c A Q H locs hQ hx hb hr hml hown hlk hname hts hK hP hD hS hA hX ls hl
  have hl : lv_has ls 10 [(0, .ref (am 0)), (1, .int (ii 0))] := hl
  obtain ⟨hW, hWS, hlg⟩ := id hF
  obtain ⟨hw0, hw1, hw2, hw3, hw4, hw5, h8a, h8b, h9a, h9b, h10a, h10b⟩ := id hW
  obtain ⟨mL, mP, mR, mC, mK, mM, mA, mB, mD⟩ := id hSm
  have hst := (cdv_dig hWS.1 hWS.2).1
  obtain ⟨hst0, hst1⟩ := id hst
  refine lv_aload_n hx hb dX12_seek_0 rfl (lv_at hl 0 rfl) ?_
  refine kM (va_runV (As := []) (rest := []) ⟨hx, hb, hml, hown, hts⟩ ((m_findMovesM l G am ty τ ρ cs _ (show okF F from hF) (show Sim F τ from hSm)) H.size) (cwV 0 hts (lw_V q1562 q1564 qs55 q87 q1565) rfl rfl rfl (by decide +kernel) ⟨Nat.le_of_ble_eq_true rfl, Nat.le_of_ble_eq_true rfl⟩) (pvM (r := (RX12, TX12, 52)) hK hP hD hX 0 (aM_0 _ _ _ _ _) rfl) rfl rfl hl.1 rfl (lv_room (Nat.le_of_ble_eq_true rfl)) dX12_seek_1 ⟨Nat.le_of_ble_eq_true rfl, Nat.le_of_ble_eq_true rfl⟩) hD hS hA (fun v ws1 H locs hv hP hD hS => ?_)
  obtain ⟨gm1, nm1, rfl, rfl, hCL1, hnm1⟩ := hv
  have hP : va_P G gcl (wM am ty τ (up (up ρ 29 gm1) 30 (sc (nm1))) ++ cs) H := hP
  have hD : va_D A (wM am ty τ (up (up ρ 29 gm1) 30 (sc (nm1))) ++ cs) := hD
  have hCL1 : LL (cand F) gm1 nm1 70000 := hCL1
  have hnm1 : 0 ≤ nm1 ∧ nm1 ≤ 2400 := hnm1
  refine li_iconst hx hb dX12_seek_4 ?_
  refine lv_istore_n (lv' := [(2, .int (ii 0)), (0, .ref (am 0)), (1, .int (ii 0))]) hx hb dX12_seek_5 rfl hl (by decide) rfl (fun ls hl => ?_)
  have X6 : ∀ (i1 : Int) (la0 : Int → Int) (qd0 : Int → Int) (_ : ∀ c, inSt c → la0 c = FARc) (_ : ∀ c, inSt c → qd0 c = 0) (H : Heap) (locs : List Loc) (_ : va_P G gcl (wM am ty τ (up (up (up (up ρ 29 gm1) 30 (sc (nm1))) 31 la0) 35 qd0) ++ cs) H) (_ : va_D A (wM am ty τ (up (up (up (up ρ 29 gm1) 30 (sc (nm1))) 31 la0) 35 qd0) ++ cs)) (_ : va_S A s.heap H locs) (ls : Array Slot), lv_has ls 10 [(0, .ref (am 0)), (1, .int (ii 0))] → W p l e (rm4 3 0 0 81) s m args below meth c H locs 0 0 Q (F0 m 35 ls []) := by
    intro i1 la0 qd0 hla hqa H locs hP hD hS ls hl
    refine lv_aload_n hx hb dX12_seek_35 rfl (lv_at hl 0 rfl) ?_
    refine kR (va_runV (As := []) (rest := []) ⟨hx, hb, hml, hown, hts⟩ (m_stateNowM l G am ty τ (up (up (up (up ρ 29 gm1) 30 (sc (nm1))) 31 la0) 35 qd0) cs _ (show okF F from hF) (show Sim F τ from hSm) (show zerF F from hZ)) (cwV 0 hts (lw_V q1514 q1516 qs46 q87 q1517) rfl rfl rfl (by decide +kernel) ⟨Nat.le_of_ble_eq_true rfl, Nat.le_of_ble_eq_true rfl⟩) (pvR (r := (RX12, TX12, 52)) hK hP hD hX 0 (aM_0 _ _ _ _ _) rfl) rfl rfl hl.1 rfl (lv_room (Nat.le_of_ble_eq_true rfl)) dX12_seek_36 ⟨Nat.le_of_ble_eq_true rfl, Nat.le_of_ble_eq_true rfl⟩) (fun v hv => ?_)
    have hv := hv
    subst hv
    refine lv_istore_n (lv' := [(2, .int (ii (cdv (F 6) (F 7)))), (0, .ref (am 0)), (1, .int (ii 0))]) hx hb dX12_seek_39 rfl hl (by decide) rfl (fun ls hl => ?_)
    refine lv_aload_n hx hb dX12_seek_40 rfl (lv_at hl 1 rfl) ?_
    refine va_get (D := G) (ci := 11) (v := .ref (am 19)) (C := RX12) (T := TX12) (N := 52) hx hb hts in_X12 hown hK hP 0 (aM_0 _ _ _ _ _) rfl 31 (by decide) (hts _ q1296) (fun _ h9 => h9) rfl dX12_seek_41 ?_
    refine lv_iload_n hx hb dX12_seek_44 rfl (lv_at hl 0 rfl) ?_
    refine li_iconst hx hb dX12_seek_45 ?_
    refine li_iast (g := la0) (W2 := wM am ty τ (up (up (up (up ρ 29 gm1) 30 (sc (nm1))) 35 qd0) 31 (ug la0 (cdv (F 6) (F 7)) 0)) ++ cs) hx hb hK hP hD hS 19 0 (aM_19 _ _ _ _ _) rfl (by omega) (by omega) (by decide) rfl dX12_seek_46 (fun H locs hP hD hS => ?_)
    refine lv_aload_n hx hb dX12_seek_47 rfl (lv_at hl 1 rfl) ?_
    refine va_get (D := G) (ci := 11) (v := .ref (am 20)) (C := RX12) (T := TX12) (N := 52) hx hb hts in_X12 hown hK hP 0 (aM_0 _ _ _ _ _) rfl 32 (by decide) (hts _ q1297) (fun _ h9 => h9) rfl dX12_seek_48 ?_
    refine li_iconst hx hb dX12_seek_51 ?_
    refine lv_iload_n hx hb dX12_seek_52 rfl (lv_at hl 0 rfl) ?_
    refine li_iast (g := (ρ 32)) (W2 := wM am ty τ (up (up (up (up (up ρ 29 gm1) 30 (sc (nm1))) 35 qd0) 31 (ug la0 (cdv (F 6) (F 7)) 0)) 32 (ug (ρ 32) 0 (cdv (F 6) (F 7)))) ++ cs) hx hb hK hP hD hS 20 0 (aM_20 _ _ _ _ _) rfl (by decide) (by decide) (by decide) rfl dX12_seek_53 (fun H locs hP hD hS => ?_)
    refine lv_aload_n hx hb dX12_seek_54 rfl (lv_at hl 1 rfl) ?_
    refine li_iconst hx hb dX12_seek_55 ?_
    refine va_put (D := G) (ci := 11) (v := .int (ii 1)) (ty := .int) (C := RX12) (T := TX12) (N := 52) hx hb hts in_X12 tyX12 tyX12_ok nmX12 hown hK hP hD hS 0 (aM_0 _ _ _ _ _) rfl 33 (by decide) (hts _ q1298) (fun _ h9 => h9) rfl (tyX12_ok 33 (by decide)) rfl rfl (Nat.le_of_ble_eq_true rfl) dX12_seek_56 (fun H locs hP hD hS => ?_)
    have hP : va_P G gcl (wM am ty τ (up (up (up (up (up (up ρ 29 gm1) 30 (sc (nm1))) 35 qd0) 31 (ug la0 (cdv (F 6) (F 7)) 0)) 32 (ug (ρ 32) 0 (cdv (F 6) (F 7)))) 33 (sc (1))) ++ cs) H := hP
    have hD : va_D A (wM am ty τ (up (up (up (up (up (up ρ 29 gm1) 30 (sc (nm1))) 35 qd0) 31 (ug la0 (cdv (F 6) (F 7)) 0)) 32 (ug (ρ 32) 0 (cdv (F 6) (F 7)))) 33 (sc (1))) ++ cs) := hD
    refine lv_aload_n hx hb dX12_seek_59 rfl (lv_at hl 1 rfl) ?_
    refine va_get (D := G) (ci := 11) (v := .ref (am 21)) (C := RX12) (T := TX12) (N := 52) hx hb hts in_X12 hown hK hP 0 (aM_0 _ _ _ _ _) rfl 34 (by decide) (hts _ q1299) (fun _ h9 => h9) rfl dX12_seek_60 ?_
    refine li_iconst hx hb dX12_seek_63 ?_
    refine lv_iload_n hx hb dX12_seek_64 rfl (lv_at hl 0 rfl) ?_
    refine li_iast (g := (ρ 34)) (W2 := wM am ty τ (up (up (up (up (up (up (up ρ 29 gm1) 30 (sc (nm1))) 35 qd0) 31 (ug la0 (cdv (F 6) (F 7)) 0)) 32 (ug (ρ 32) 0 (cdv (F 6) (F 7)))) 33 (sc (1))) 34 (ug (ρ 34) 0 (cdv (F 6) (F 7)))) ++ cs) hx hb hK hP hD hS 21 0 (aM_21 _ _ _ _ _) rfl (by decide) (by decide) (by decide) rfl dX12_seek_65 (fun H locs hP hD hS => ?_)
    refine lv_aload_n hx hb dX12_seek_66 rfl (lv_at hl 1 rfl) ?_
    refine va_get (D := G) (ci := 11) (v := .ref (am 22)) (C := RX12) (T := TX12) (N := 52) hx hb hts in_X12 hown hK hP 0 (aM_0 _ _ _ _ _) rfl 35 (by decide) (hts _ q1300) (fun _ h9 => h9) rfl dX12_seek_67 ?_
    refine lv_iload_n hx hb dX12_seek_70 rfl (lv_at hl 0 rfl) ?_
    refine li_iconst hx hb dX12_seek_71 ?_
    refine li_zast (g := qd0) (W2 := wM am ty τ (up (up (up (up (up (up (up ρ 29 gm1) 30 (sc (nm1))) 31 (ug la0 (cdv (F 6) (F 7)) 0)) 32 (ug (ρ 32) 0 (cdv (F 6) (F 7)))) 33 (sc (1))) 34 (ug (ρ 34) 0 (cdv (F 6) (F 7)))) 35 (ug qd0 (cdv (F 6) (F 7)) 1)) ++ cs) hx hb hK hP hD hS 22 1 (aM_22 _ _ _ _ _) rfl (by omega) (by omega) (by decide) (by omega) rfl dX12_seek_72 (fun H locs hP hD hS => ?_)
    refine li_iconst hx hb dX12_seek_73 ?_
    refine lv_istore_n (lv' := [(3, .int (ii 0)), (2, .int (ii (cdv (F 6) (F 7)))), (0, .ref (am 0)), (1, .int (ii 0))]) hx hb dX12_seek_74 rfl hl (by decide) rfl (fun ls hl => ?_)
    refine li_iconst hx hb dX12_seek_75 ?_
    refine lv_istore (lv' := [(4, .int (ii 1)), (3, .int (ii 0)), (2, .int (ii (cdv (F 6) (F 7)))), (0, .ref (am 0)), (1, .int (ii 0))]) hx hb dX12_seek_76 hl (by decide) rfl (fun ls hl => ?_)
    have L78 : ∀ (n : Nat) (ma : Int) (fi : Int) (wT : Int → Int) (qT : Int → Int) (la : Int → Int) (me : Int → Int) (n8 : Int) (qu : Int → Int) (qd : Int → Int) (_ : wfS wT qT) (_ : SK (EF F) (cdv (F 6) (F 7)) la me n8 qd qu fi ma (fun _ => False)) (_ : (2 * smN la 4500 + ma).toNat < n) (H : Heap) (locs : List Loc) (_ : va_P G gcl (wM am ty τ (up (up (up (up (up (up (up (up (up ρ 29 gm1) 30 (sc (nm1))) 27 wT) 28 qT) 31 la) 32 me) 33 (sc (n8))) 34 qu) 35 qd) ++ cs) H) (_ : va_D A (wM am ty τ (up (up (up (up (up (up (up (up (up ρ 29 gm1) 30 (sc (nm1))) 27 wT) 28 qT) 31 la) 32 me) 33 (sc (n8))) 34 qu) 35 qd) ++ cs)) (_ : va_S A s.heap H locs) (ls : Array Slot), lv_has ls 10 [(4, .int (ii ma)), (3, .int (ii fi)), (2, .int (ii (cdv (F 6) (F 7)))), (0, .ref (am 0)), (1, .int (ii 0))] → W p l e (rm4 3 0 0 81) s m args below meth c H locs 0 0 Q (F0 m 78 ls []) := by
      intro n
      induction n with
      | zero =>
        intro ma fi wT qT la me n8 qu qd hSt hSK hm
        exact absurd hm (Nat.not_lt_zero _)
      | succ n ih =>
        intro ma fi wT qT la me n8 qu qd hSt hSK hm H locs hP hD hS ls hl
        have hf0 := hSK.f0
        have hf1 := hSK.f1
        have hm0 := hSK.m0
        have hm1 := hSK.m1
        have hsm := hSK.toMet.sm
        refine lv_iload hx hb dX12_seek_78 (lv_at hl 0 rfl) ?_
        refine li_if_le (tgt := 370) hx hb ⟨by omega, by omega⟩ dX12_seek_80 (by decide) (fun c80 => ?_) (fun c80 => ?_)
        · exact eMv hQ hx hb hr hlk hP hD hS (Nat.le_of_ble_eq_true rfl) (Nat.le_of_ble_eq_true rfl) dX12_seek_370 (⟨wT, qT, gm1, nm1, la, me, n8, qu, qd, rfl, rfl, hSt, SK.done hSK (by omega), hCL1, hnm1⟩)
        · obtain ⟨hSKp, hic, hlc, -⟩ := SK.pop hSK c80
          obtain ⟨hic0, hic1⟩ := id hic
          refine lv_aload_n hx hb dX12_seek_83 rfl (lv_at hl 3 rfl) ?_
          refine va_get (D := G) (ci := 11) (v := .ref (am 21)) (C := RX12) (T := TX12) (N := 52) hx hb hts in_X12 hown hK hP 0 (aM_0 _ _ _ _ _) rfl 34 (by decide) (hts _ q1299) (fun _ h9 => h9) rfl dX12_seek_84 ?_
          refine lv_iload_n hx hb dX12_seek_87 rfl (lv_at hl 1 rfl) ?_
          refine li_iald (g := qu) hx hb hK hP 21 0 (aM_21 _ _ _ _ _) rfl (by omega) (by omega) (by decide) dX12_seek_88 ?_
          refine lv_istore (lv' := [(5, .int (ii (qu fi))), (4, .int (ii ma)), (3, .int (ii fi)), (2, .int (ii (cdv (F 6) (F 7)))), (0, .ref (am 0)), (1, .int (ii 0))]) hx hb dX12_seek_89 hl (by decide) rfl (fun ls hl => ?_)
          refine lv_iload_n hx hb dX12_seek_91 rfl (lv_at hl 2 rfl) ?_
          refine li_sipush hx hb dX12_seek_92 (by decide) ?_
          have J95 : ∀ (y95_0 : Int) (_ : y95_0 = (fi + 1) % 4500) (H : Heap) (locs : List Loc) (_ : va_P G gcl (wM am ty τ (up (up (up (up (up (up (up (up (up ρ 29 gm1) 30 (sc (nm1))) 27 wT) 28 qT) 31 la) 32 me) 33 (sc (n8))) 34 qu) 35 qd) ++ cs) H) (_ : va_D A (wM am ty τ (up (up (up (up (up (up (up (up (up ρ 29 gm1) 30 (sc (nm1))) 27 wT) 28 qT) 31 la) 32 me) 33 (sc (n8))) 34 qu) 35 qd) ++ cs)) (_ : va_S A s.heap H locs) (ls : Array Slot), lv_has ls 10 [(5, .int (ii (qu fi))), (4, .int (ii ma)), (3, .int (ii fi)), (2, .int (ii (cdv (F 6) (F 7)))), (0, .ref (am 0)), (1, .int (ii 0))] → W p l e (rm4 3 0 0 81) s m args below meth c H locs 0 0 Q (F0 m 105 ls [.int (ii y95_0)]) := by
            intro y95_0 hj95 H locs hP hD hS ls hl
            rw [← hj95] at hSKp
            refine lv_istore_n (lv' := [(3, .int (ii y95_0)), (5, .int (ii (qu fi))), (4, .int (ii ma)), (2, .int (ii (cdv (F 6) (F 7)))), (0, .ref (am 0)), (1, .int (ii 0))]) hx hb dX12_seek_105 rfl hl (by decide) rfl (fun ls hl => ?_)
            refine li_iinc (a := ma) (lv' := [(4, .int (ii (ma + (-1)))), (3, .int (ii y95_0)), (5, .int (ii (qu fi))), (2, .int (ii (cdv (F 6) (F 7)))), (0, .ref (am 0)), (1, .int (ii 0))]) hx hb dX12_seek_106 hl (k := 2) rfl (by decide) rfl (fun ls hl => ?_)
            refine lv_aload_n hx hb dX12_seek_109 rfl (lv_at hl 4 rfl) ?_
            refine va_get (D := G) (ci := 11) (v := .ref (am 22)) (C := RX12) (T := TX12) (N := 52) hx hb hts in_X12 hown hK hP 0 (aM_0 _ _ _ _ _) rfl 35 (by decide) (hts _ q1300) (fun _ h9 => h9) rfl dX12_seek_110 ?_
            refine lv_iload hx hb dX12_seek_113 (lv_at hl 2 rfl) ?_
            refine li_iconst hx hb dX12_seek_115 ?_
            refine li_zast (g := qd) (W2 := wM am ty τ (up (up (up (up (up (up (up (up (up ρ 29 gm1) 30 (sc (nm1))) 27 wT) 28 qT) 31 la) 32 me) 33 (sc (n8))) 34 qu) 35 (ug qd (qu fi) 0)) ++ cs) hx hb hK hP hD hS 22 1 (aM_22 _ _ _ _ _) rfl (by omega) (by omega) (by decide) (by omega) rfl dX12_seek_116 (fun H locs hP hD hS => ?_)
            refine lv_aload_n hx hb dX12_seek_117 rfl (lv_at hl 4 rfl) ?_
            refine lv_iload hx hb dX12_seek_118 (lv_at hl 2 rfl) ?_
            refine kM (va_runV (As := [.int (ii (qu fi))]) (rest := []) ⟨hx, hb, hml, hown, hts⟩ ((m_openM l G am ty τ (up (up (up (up (up (up (up (up (up ρ 29 gm1) 30 (sc (nm1))) 27 wT) 28 qT) 31 la) 32 me) 33 (sc (n8))) 34 qu) 35 (ug qd (qu fi) 0)) cs (qu fi) (show inSt (qu fi) from hic)) H.size) (cwV 1 hts (lw_V q1518 q1520 qs47 q87 q1521) rfl rfl rfl (by decide +kernel) ⟨Nat.le_of_ble_eq_true rfl, Nat.le_of_ble_eq_true rfl⟩) (pvM (r := (RX12, TX12, 52)) hK hP hD hX 0 (aM_0 _ _ _ _ _) rfl) rfl rfl hl.1 rfl (lv_room (Nat.le_of_ble_eq_true rfl)) dX12_seek_120 ⟨Nat.le_of_ble_eq_true rfl, Nat.le_of_ble_eq_true rfl⟩) hD hS hA (fun v ws1 H locs hv hP hD hS => ?_)
            obtain ⟨rfl, rfl, hal120⟩ := hv
            have hP : va_P G gcl (wM am ty τ (up (up (up (up (up (up (up (up (up ρ 29 gm1) 30 (sc (nm1))) 31 la) 32 me) 33 (sc (n8))) 34 qu) 35 (ug qd (qu fi) 0)) 27 (dcw (qu fi) wT)) 28 (dcq (qu fi) qT)) ++ cs) H := hP
            have hD : va_D A (wM am ty τ (up (up (up (up (up (up (up (up (up ρ 29 gm1) 30 (sc (nm1))) 31 la) 32 me) 33 (sc (n8))) 34 qu) 35 (ug qd (qu fi) 0)) 27 (dcw (qu fi) wT)) 28 (dcq (qu fi) qT)) ++ cs) := hD
            have hal120 : alike (dcw (qu fi) wT) (dcq (qu fi) qT) (stW (qu fi)) (stQ (qu fi)) := hal120
            have hS1 : wfS (dcw (qu fi) wT) (dcq (qu fi) qT) := ⟨dcw_b hSt.1, dcq_b hSt.2⟩
            refine li_iconst hx hb dX12_seek_123 ?_
            refine lv_istore (lv' := [(6, .int (ii 0)), (4, .int (ii (ma + (-1)))), (3, .int (ii y95_0)), (5, .int (ii (qu fi))), (2, .int (ii (cdv (F 6) (F 7)))), (0, .ref (am 0)), (1, .int (ii 0))]) hx hb dX12_seek_124 hl (by decide) rfl (fun ls hl => ?_)
            have X126 : ∀ (k1 : Int) (mb : Int) (wU : Int → Int) (qU : Int → Int) (lb : Int → Int) (mf : Int → Int) (nb : Int) (qv : Int → Int) (qb : Int → Int) (_ : wfS wU qU) (_ : SK (EF F) (cdv (F 6) (F 7)) lb mf nb qb qv y95_0 mb (fun _ => False)) (_ : 0 ≤ 2 * smN lb 4500 + mb) (_ : 2 * smN lb 4500 + mb ≤ 2 * smN la 4500 + (ma - 1)) (H : Heap) (locs : List Loc) (_ : va_P G gcl (wM am ty τ (up (up (up (up (up (up (up (up (up ρ 29 gm1) 30 (sc (nm1))) 27 wU) 28 qU) 31 lb) 32 mf) 33 (sc (nb))) 34 qv) 35 qb) ++ cs) H) (_ : va_D A (wM am ty τ (up (up (up (up (up (up (up (up (up ρ 29 gm1) 30 (sc (nm1))) 27 wU) 28 qU) 31 lb) 32 mf) 33 (sc (nb))) 34 qv) 35 qb) ++ cs)) (_ : va_S A s.heap H locs) (ls : Array Slot), lv_has ls 10 [(4, .int (ii mb)), (3, .int (ii y95_0)), (2, .int (ii (cdv (F 6) (F 7)))), (0, .ref (am 0)), (1, .int (ii 0))] → W p l e (rm4 3 0 0 81) s m args below meth c H locs 0 0 Q (F0 m 367 ls []) := by
              intro k1 mb wU qU lb mf nb qv qb hSt hSK hsm2 hphi H locs hP hD hS ls hl
              refine lv_goto (tgt := 78) hx hb dX12_seek_367 (by decide) ?_
              exact ih mb y95_0 wU qU lb mf nb qv qb (hSt) (hSK) (by omega) H locs hP hD hS ls (lv_sub hl [0, 1, 2, 3, 4] rfl)
            have L126 : ∀ (n : Nat) (k1 : Int) (mb : Int) (wU : Int → Int) (qU : Int → Int) (lb : Int → Int) (mf : Int → Int) (nb : Int) (qv : Int → Int) (qb : Int → Int) (_ : wfS wU qU) (_ : alike wU qU (stW (qu fi)) (stQ (qu fi))) (_ : 0 ≤ k1) (_ : k1 ≤ nm1) (_ : SK (EF F) (cdv (F 6) (F 7)) lb mf nb qb qv y95_0 mb (fun x => x = qu fi)) (_ : lb (qu fi) ≠ FARc) (_ : seenI (cand F) (QF F (qu fi) lb) k1) (_ : 2 * smN lb 4500 + mb ≤ 2 * smN la 4500 + (ma - 1)) (_ : (nm1 - k1).toNat < n) (H : Heap) (locs : List Loc) (_ : va_P G gcl (wM am ty τ (up (up (up (up (up (up (up (up (up ρ 29 gm1) 30 (sc (nm1))) 27 wU) 28 qU) 31 lb) 32 mf) 33 (sc (nb))) 34 qv) 35 qb) ++ cs) H) (_ : va_D A (wM am ty τ (up (up (up (up (up (up (up (up (up ρ 29 gm1) 30 (sc (nm1))) 27 wU) 28 qU) 31 lb) 32 mf) 33 (sc (nb))) 34 qv) 35 qb) ++ cs)) (_ : va_S A s.heap H locs) (ls : Array Slot), lv_has ls 10 [(6, .int (ii k1)), (4, .int (ii mb)), (3, .int (ii y95_0)), (5, .int (ii (qu fi))), (2, .int (ii (cdv (F 6) (F 7)))), (0, .ref (am 0)), (1, .int (ii 0))] → W p l e (rm4 3 0 0 81) s m args below meth c H locs 0 0 Q (F0 m 126 ls []) := by
              intro n
              induction n with
              | zero =>
                intro k1 mb wU qU lb mf nb qv qb hSt hal hk0 hk1 hSKb hlcb hse hphi hm
                exact absurd hm (Nat.not_lt_zero _)
              | succ n ih =>
                intro k1 mb wU qU lb mf nb qv qb hSt hal hk0 hk1 hSKb hlcb hse hphi hm H locs hP hD hS ls hl
                refine lv_iload hx hb dX12_seek_126 (lv_at hl 0 rfl) ?_
                refine lv_aload_n hx hb dX12_seek_128 rfl (lv_at hl 5 rfl) ?_
                refine va_get (D := G) (ci := 11) (v := .int (ii nm1)) (C := RX12) (T := TX12) (N := 52) hx hb hts in_X12 hown hK hP 0 (aM_0 _ _ _ _ _) rfl 30 (by decide) (hts _ q1295) (fun _ h9 => h9) rfl dX12_seek_129 ?_
                refine li_icmp_ge (tgt := 367) hx hb ⟨by omega, by omega⟩ ⟨by omega, by omega⟩ dX12_seek_132 (by decide) (fun c132 => ?_) (fun c132 => ?_)
                · exact X126 k1 mb wU qU lb mf nb qv qb (hSt) (SK.fin hSKb (QF_all hW (seenI_all hse hCL1 cand_b (by omega)))) (by have := hSKb.toMet.sm; have := hSKb.m0; omega) (by omega) H locs hP hD hS ls (lv_sub hl [1, 2, 4, 5, 6] rfl)
                · obtain ⟨ha0, ha1, hcd, hcn⟩ := LL_at hCL1 (by decide) hk0 c132
                  have hdd := isT_m hcd.1
                  have hm00 := hcd.1.1
                  have hm01 := hcd.1.2.1
                  have hvb := mvV_b hW hcd.1
                  have hf0 := hSKb.f0
                  have hf1 := hSKb.f1
                  refine lv_aload_n hx hb dX12_seek_135 rfl (lv_at hl 5 rfl) ?_
                  refine lv_aload_n hx hb dX12_seek_136 rfl (lv_at hl 5 rfl) ?_
                  refine va_get (D := G) (ci := 11) (v := .ref (am 18)) (C := RX12) (T := TX12) (N := 52) hx hb hts in_X12 hown hK hP 0 (aM_0 _ _ _ _ _) rfl 29 (by decide) (hts _ q1294) (fun _ h9 => h9) rfl dX12_seek_137 ?_
                  refine lv_iload hx hb dX12_seek_140 (lv_at hl 0 rfl) ?_
                  refine li_iald (g := gm1) hx hb hK hP 18 0 (aM_18 _ _ _ _ _) rfl (by omega) (by omega) (by decide) dX12_seek_142 ?_
                  refine kR (va_runV (As := [.int (ii (gm1 k1))]) (rest := []) ⟨hx, hb, hml, hown, hts⟩ (m_minutesOfM l G am ty τ (up (up (up (up (up (up (up (up (up ρ 29 gm1) 30 (sc (nm1))) 27 wU) 28 qU) 31 lb) 32 mf) 33 (sc (nb))) 34 qv) 35 qb) cs (gm1 k1) _ (show okF F from hF) (show Sim F τ from hSm) (show wfS wU qU from hSt) (show isT (gm1 k1) from hcd.1)) (cwV 1 hts (lw_V q1522 q1524 qs48 q87 q1525) rfl rfl rfl (by decide +kernel) ⟨Nat.le_of_ble_eq_true rfl, Nat.le_of_ble_eq_true rfl⟩) (pvR (r := (RX12, TX12, 52)) hK hP hD hX 0 (aM_0 _ _ _ _ _) rfl) rfl rfl hl.1 rfl (lv_room (Nat.le_of_ble_eq_true rfl)) dX12_seek_143 ⟨Nat.le_of_ble_eq_true rfl, Nat.le_of_ble_eq_true rfl⟩) (fun v hv => ?_)
                  obtain ⟨z143, rfl, hz143⟩ := hv
                  have hz143 : (mvOk F wU qU (gm1 k1) ∧ z143 = mvV F (gm1 k1)) ∨ (¬ mvOk F wU qU (gm1 k1) ∧ z143 = -1) := hz143
                  have hzr143 : -1 ≤ z143 ∧ z143 ≤ 312 := mz_b hW (hcd.1) hz143
                  refine lv_istore (lv' := [(7, .int (ii z143)), (6, .int (ii k1)), (4, .int (ii mb)), (3, .int (ii y95_0)), (5, .int (ii (qu fi))), (2, .int (ii (cdv (F 6) (F 7)))), (0, .ref (am 0)), (1, .int (ii 0))]) hx hb dX12_seek_146 hl (by decide) rfl (fun ls hl => ?_)
                  refine li_iconst hx hb dX12_seek_148 ?_
                  refine lv_istore (lv' := [(8, .int (ii 0)), (7, .int (ii z143)), (6, .int (ii k1)), (4, .int (ii mb)), (3, .int (ii y95_0)), (5, .int (ii (qu fi))), (2, .int (ii (cdv (F 6) (F 7)))), (0, .ref (am 0)), (1, .int (ii 0))]) hx hb dX12_seek_149 hl (by decide) rfl (fun ls hl => ?_)
                  refine lv_iload hx hb dX12_seek_151 (lv_at hl 0 rfl) ?_
                  refine lv_iload_n hx hb dX12_seek_153 rfl (lv_at hl 8 rfl) ?_
                  refine li_if_eq (tgt := 176) hx hb ⟨by decide, by decide⟩ dX12_seek_154 (by decide) (fun c154 => ?_) (fun c154 => ?_)
                  · refine li_iconst hx hb dX12_seek_176 ?_
                    refine li_icmp_ge (tgt := 361) hx hb ⟨by decide, by decide⟩ ⟨by decide, by decide⟩ dX12_seek_177 (by decide) (fun c177 => ?_) (fun c177 => ?_)
                    · exact absurd c177 (by decide)
                    · refine lv_iload hx hb dX12_seek_180 (lv_at hl 1 rfl) ?_
                      refine li_if_lt (tgt := 361) hx hb (rg4 ⟨Int.le_trans (by decide) hzr143.1, Int.le_trans hzr143.2 (by decide)⟩) dX12_seek_182 (by decide) (fun c182 => ?_) (fun c182 => ?_)
                      · refine li_iinc (a := k1) (lv' := [(6, .int (ii (k1 + 1))), (8, .int (ii 0)), (7, .int (ii z143)), (4, .int (ii mb)), (3, .int (ii y95_0)), (5, .int (ii (qu fi))), (2, .int (ii (cdv (F 6) (F 7)))), (0, .ref (am 0)), (1, .int (ii 0))]) hx hb dX12_seek_361 hl (k := 2) rfl (by decide) rfl (fun ls hl => ?_)
                        refine lv_goto (tgt := 126) hx hb dX12_seek_364 (by decide) ?_
                        exact ih (k1 + 1) mb wU qU lb mf nb qv qb (hSt) (hal) (by omega) (by omega) (hSKb) (hlcb) (seenI_s hse cand_n hcd hcn (fun q => absurd (((congrFun (lgl_al hal) _).mpr q).2) (hz143.resolve_left (fun r => by have := r.2; omega)).1)) (hphi) (by omega) H locs hP hD hS ls (lv_sub hl [0, 3, 4, 5, 6, 7, 8] rfl)
                      · obtain ⟨hok, hval⟩ := hz143.resolve_right (fun q => by omega)
                        have hleg : leg F (qu fi) (gm1 k1) := (congrFun (lgl_al hal) _).mp ⟨hcd.1, hok⟩
                        have hnx := nx_in (c := qu fi) hleg.1
                        obtain ⟨hnx0, hnx1⟩ := id hnx
                        have hS2 : wfS (dcw (qu fi) (mvw (gm1 k1 / 1000 % 10) (gm1 k1 % 10) wU)) (dcq (qu fi) (mvq (gm1 k1 / 10000) (gm1 k1 / 100 % 10) (gm1 k1 % 10) qU)) := ⟨dcw_b (nx_wf hcd.1 hSt).1, dcq_b (nx_wf hcd.1 hSt).2⟩
                        refine lv_aload_n hx hb dX12_seek_185 rfl (lv_at hl 7 rfl) ?_
                        refine lv_aload_n hx hb dX12_seek_186 rfl (lv_at hl 7 rfl) ?_
                        refine va_get (D := G) (ci := 11) (v := .ref (am 18)) (C := RX12) (T := TX12) (N := 52) hx hb hts in_X12 hown hK hP 0 (aM_0 _ _ _ _ _) rfl 29 (by decide) (hts _ q1294) (fun _ h9 => h9) rfl dX12_seek_187 ?_
                        refine lv_iload hx hb dX12_seek_190 (lv_at hl 2 rfl) ?_
                        refine li_iald (g := gm1) hx hb hK hP 18 0 (aM_18 _ _ _ _ _) rfl (by omega) (by omega) (by decide) dX12_seek_192 ?_
                        refine lv_iload hx hb dX12_seek_193 (lv_at hl 0 rfl) ?_
                        refine li_iconst hx hb dX12_seek_195 ?_
                        refine li_icmp_ne (tgt := 203) hx hb ⟨by decide, by decide⟩ ⟨by decide, by decide⟩ dX12_seek_196 (by decide) (fun c196 => ?_) (fun c196 => ?_)
                        · refine li_iconst hx hb dX12_seek_203 ?_
                          refine kM (va_runV (As := [.int (ii (gm1 k1)), .int (ii 0)]) (rest := []) ⟨hx, hb, hml, hown, hts⟩ ((m_makeM0 l G am ty τ (up (up (up (up (up (up (up (up (up ρ 29 gm1) 30 (sc (nm1))) 27 wU) 28 qU) 31 lb) 32 mf) 33 (sc (nb))) 34 qv) 35 qb) cs (gm1 k1) _ (show okF F from hF) (show Sim F τ from hSm) (show wfS wU qU from hSt) (show isT (gm1 k1) from hcd.1) (show (gm1 k1) / 1000 % 10 < p2 (F 9 0) from cand_p2 h9a h9b hcd) (show (gm1 k1) / 10000 = 3 → (gm1 k1) / 100 % 10 = 0 from cand_r3 hcd)) H.size) (cwV 2 hts (lw_V q1550 q1552 qs53 q87 q1553) rfl rfl rfl (by decide +kernel) ⟨Nat.le_of_ble_eq_true rfl, Nat.le_of_ble_eq_true rfl⟩) (pvM (r := (RX12, TX12, 52)) hK hP hD hX 0 (aM_0 _ _ _ _ _) rfl) rfl rfl hl.1 rfl (lv_room (Nat.le_of_ble_eq_true rfl)) dX12_seek_204 ⟨Nat.le_of_ble_eq_true rfl, Nat.le_of_ble_eq_true rfl⟩) hD hS hA (fun v ws1 H locs hv hP hD hS => ?_)
                          obtain ⟨rfl, rfl⟩ := hv
                          have hP : va_P G gcl (wM am ty τ (up (up (up (up (up (up (up (up (up ρ 29 gm1) 30 (sc (nm1))) 31 lb) 32 mf) 33 (sc (nb))) 34 qv) 35 qb) 27 (mvw ((gm1 k1) / 1000 % 10) ((gm1 k1) % 10) wU)) 28 ((mvq ((gm1 k1) / 10000) ((gm1 k1) / 100 % 10) ((gm1 k1) % 10) qU))) ++ cs) H := hP
                          have hD : va_D A (wM am ty τ (up (up (up (up (up (up (up (up (up ρ 29 gm1) 30 (sc (nm1))) 31 lb) 32 mf) 33 (sc (nb))) 34 qv) 35 qb) 27 (mvw ((gm1 k1) / 1000 % 10) ((gm1 k1) % 10) wU)) 28 ((mvq ((gm1 k1) / 10000) ((gm1 k1) / 100 % 10) ((gm1 k1) % 10) qU))) ++ cs) := hD
                          refine lv_aload_n hx hb dX12_seek_207 rfl (lv_at hl 7 rfl) ?_
                          refine kR (va_runV (As := []) (rest := []) ⟨hx, hb, hml, hown, hts⟩ (m_closedM l G am ty τ (up (up (up (up (up (up (up (up (up ρ 29 gm1) 30 (sc (nm1))) 31 lb) 32 mf) 33 (sc (nb))) 34 qv) 35 qb) 27 (mvw ((gm1 k1) / 1000 % 10) ((gm1 k1) % 10) wU)) 28 ((mvq ((gm1 k1) / 10000) ((gm1 k1) / 100 % 10) ((gm1 k1) % 10) qU))) cs (show wfS (mvw ((gm1 k1) / 1000 % 10) ((gm1 k1) % 10) wU) ((mvq ((gm1 k1) / 10000) ((gm1 k1) / 100 % 10) ((gm1 k1) % 10) qU)) from nx_wf hcd.1 hSt)) (cwV 0 hts (lw_V q1599 q1601 qs61 q87 q1602) rfl rfl rfl (by decide +kernel) ⟨Nat.le_of_ble_eq_true rfl, Nat.le_of_ble_eq_true rfl⟩) (pvR (r := (RX12, TX12, 52)) hK hP hD hX 0 (aM_0 _ _ _ _ _) rfl) rfl rfl hl.1 rfl (lv_room (Nat.le_of_ble_eq_true rfl)) dX12_seek_208 ⟨Nat.le_of_ble_eq_true rfl, Nat.le_of_ble_eq_true rfl⟩) (fun v hv => ?_)
                          have hv := hv
                          subst hv
                          refine li_topx (z := nx (qu fi) (gm1 k1)) (congrArg ii (nxS_al _ hal)) ?_
                          refine lv_istore (lv' := [(9, .int (ii (nx (qu fi) (gm1 k1)))), (8, .int (ii 0)), (7, .int (ii z143)), (6, .int (ii k1)), (4, .int (ii mb)), (3, .int (ii y95_0)), (5, .int (ii (qu fi))), (2, .int (ii (cdv (F 6) (F 7)))), (0, .ref (am 0)), (1, .int (ii 0))]) hx hb dX12_seek_211 hl (by decide) rfl (fun ls hl => ?_)
                          refine lv_aload_n hx hb dX12_seek_213 rfl (lv_at hl 8 rfl) ?_
                          refine lv_iload hx hb dX12_seek_214 (lv_at hl 6 rfl) ?_
                          refine kM (va_runV (As := [.int (ii (qu fi))]) (rest := []) ⟨hx, hb, hml, hown, hts⟩ ((m_openM l G am ty τ (up (up (up (up (up (up (up (up (up ρ 29 gm1) 30 (sc (nm1))) 31 lb) 32 mf) 33 (sc (nb))) 34 qv) 35 qb) 27 (mvw ((gm1 k1) / 1000 % 10) ((gm1 k1) % 10) wU)) 28 ((mvq ((gm1 k1) / 10000) ((gm1 k1) / 100 % 10) ((gm1 k1) % 10) qU))) cs (qu fi) (show inSt (qu fi) from hic)) H.size) (cwV 1 hts (lw_V q1518 q1520 qs47 q87 q1521) rfl rfl rfl (by decide +kernel) ⟨Nat.le_of_ble_eq_true rfl, Nat.le_of_ble_eq_true rfl⟩) (pvM (r := (RX12, TX12, 52)) hK hP hD hX 0 (aM_0 _ _ _ _ _) rfl) rfl rfl hl.1 rfl (lv_room (Nat.le_of_ble_eq_true rfl)) dX12_seek_216 ⟨Nat.le_of_ble_eq_true rfl, Nat.le_of_ble_eq_true rfl⟩) hD hS hA (fun v ws1 H locs hv hP hD hS => ?_)
                          obtain ⟨rfl, rfl, hal216⟩ := hv
                          have hP : va_P G gcl (wM am ty τ (up (up (up (up (up (up (up (up (up ρ 29 gm1) 30 (sc (nm1))) 31 lb) 32 mf) 33 (sc (nb))) 34 qv) 35 qb) 27 (dcw (qu fi) (mvw ((gm1 k1) / 1000 % 10) ((gm1 k1) % 10) wU))) 28 (dcq (qu fi) ((mvq ((gm1 k1) / 10000) ((gm1 k1) / 100 % 10) ((gm1 k1) % 10) qU)))) ++ cs) H := hP
                          have hD : va_D A (wM am ty τ (up (up (up (up (up (up (up (up (up ρ 29 gm1) 30 (sc (nm1))) 31 lb) 32 mf) 33 (sc (nb))) 34 qv) 35 qb) 27 (dcw (qu fi) (mvw ((gm1 k1) / 1000 % 10) ((gm1 k1) % 10) wU))) 28 (dcq (qu fi) ((mvq ((gm1 k1) / 10000) ((gm1 k1) / 100 % 10) ((gm1 k1) % 10) qU)))) ++ cs) := hD
                          have hal216 : alike (dcw (qu fi) (mvw ((gm1 k1) / 1000 % 10) ((gm1 k1) % 10) wU)) (dcq (qu fi) ((mvq ((gm1 k1) / 10000) ((gm1 k1) / 100 % 10) ((gm1 k1) % 10) qU))) (stW (qu fi)) (stQ (qu fi)) := hal216
                          have hrc := (hSKb).toMet.rg hic
                          have hrt := (hSKb).toMet.rg hnx
                          have hn1 := (hSKb).n1
                          have hn2 := (hSKb).toMet.n2
                          have hq := (hSKb).qb _ hnx
                          have hm0 := (hSKb).m0
                          have hmb : ¬ qb (nx (qu fi) (gm1 k1)) = 1 → mb < 4500 := fun z => (hSKb).room hnx z
                          refine lv_aload_n hx hb dX12_seek_219 rfl (lv_at hl 8 rfl) ?_
                          refine va_get (D := G) (ci := 11) (v := .ref (am 19)) (C := RX12) (T := TX12) (N := 52) hx hb hts in_X12 hown hK hP 0 (aM_0 _ _ _ _ _) rfl 31 (by decide) (hts _ q1296) (fun _ h9 => h9) rfl dX12_seek_220 ?_
                          refine lv_iload hx hb dX12_seek_223 (lv_at hl 6 rfl) ?_
                          refine li_iald (g := lb) hx hb hK hP 19 0 (aM_19 _ _ _ _ _) rfl (by omega) (by omega) (by decide) dX12_seek_225 ?_
                          refine lv_iload hx hb dX12_seek_226 (lv_at hl 2 rfl) ?_
                          refine li_add hx hb dX12_seek_228 ?_
                          refine lv_aload_n hx hb dX12_seek_229 rfl (lv_at hl 8 rfl) ?_
                          refine va_get (D := G) (ci := 11) (v := .ref (am 19)) (C := RX12) (T := TX12) (N := 52) hx hb hts in_X12 hown hK hP 0 (aM_0 _ _ _ _ _) rfl 31 (by decide) (hts _ q1296) (fun _ h9 => h9) rfl dX12_seek_230 ?_
                          refine lv_iload hx hb dX12_seek_233 (lv_at hl 0 rfl) ?_
                          refine li_iald (g := lb) hx hb hK hP 19 0 (aM_19 _ _ _ _ _) rfl (by omega) (by omega) (by decide) dX12_seek_235 ?_
                          have J236 : ∀ (x236_4 : Int) (wg236_31 : Int → Int) (wg236_32 : Int → Int) (w236_33 : Int) (wg236_34 : Int → Int) (wg236_35 : Int → Int) (_ : relO (EF F) (cdv (F 6) (F 7)) lb mf nb qb qv y95_0 mb (qu fi) (nx (qu fi) (gm1 k1)) z143 wg236_31 wg236_32 w236_33 wg236_35 wg236_34 x236_4) (H : Heap) (locs : List Loc) (_ : va_P G gcl (wM am ty τ (up (up (up (up (up (up (up (up (up ρ 29 gm1) 30 (sc (nm1))) 31 wg236_31) 32 wg236_32) 33 (sc (w236_33))) 34 wg236_34) 35 wg236_35) 27 (dcw (qu fi) (mvw ((gm1 k1) / 1000 % 10) ((gm1 k1) % 10) wU))) 28 (dcq (qu fi) ((mvq ((gm1 k1) / 10000) ((gm1 k1) / 100 % 10) ((gm1 k1) % 10) qU)))) ++ cs) H) (_ : va_D A (wM am ty τ (up (up (up (up (up (up (up (up (up ρ 29 gm1) 30 (sc (nm1))) 31 wg236_31) 32 wg236_32) 33 (sc (w236_33))) 34 wg236_34) 35 wg236_35) 27 (dcw (qu fi) (mvw ((gm1 k1) / 1000 % 10) ((gm1 k1) % 10) wU))) 28 (dcq (qu fi) ((mvq ((gm1 k1) / 10000) ((gm1 k1) / 100 % 10) ((gm1 k1) % 10) qU)))) ++ cs)) (_ : va_S A s.heap H locs) (ls : Array Slot), lv_has ls 10 [(9, .int (ii (nx (qu fi) (gm1 k1)))), (8, .int (ii 0)), (7, .int (ii z143)), (6, .int (ii k1)), (4, .int (ii x236_4)), (3, .int (ii y95_0)), (5, .int (ii (qu fi))), (2, .int (ii (cdv (F 6) (F 7)))), (0, .ref (am 0)), (1, .int (ii 0))] → W p l e (rm4 3 0 0 81) s m args below meth c H locs 0 0 Q (F0 m 355 ls []) := by
                            intro x236_4 wg236_31 wg236_32 w236_33 wg236_34 wg236_35 hj236 H locs hP hD hS ls hl
                            refine li_iinc (a := 0) (lv' := [(8, .int (ii 1)), (9, .int (ii (nx (qu fi) (gm1 k1)))), (7, .int (ii z143)), (6, .int (ii k1)), (4, .int (ii x236_4)), (3, .int (ii y95_0)), (5, .int (ii (qu fi))), (2, .int (ii (cdv (F 6) (F 7)))), (0, .ref (am 0)), (1, .int (ii 0))]) hx hb dX12_seek_355 hl (k := 1) rfl (by decide) rfl (fun ls hl => ?_)
                            refine lv_goto (tgt := 151) hx hb dX12_seek_358 (by decide) ?_
                            refine lv_iload hx hb dX12_seek_151 (lv_at hl 0 rfl) ?_
                            refine lv_iload_n hx hb dX12_seek_153 rfl (lv_at hl 9 rfl) ?_
                            refine li_if_eq (tgt := 176) hx hb ⟨by decide, by decide⟩ dX12_seek_154 (by decide) (fun c154 => ?_) (fun c154 => ?_)
                            · refine li_iconst hx hb dX12_seek_176 ?_
                              refine li_icmp_ge (tgt := 361) hx hb ⟨by decide, by decide⟩ ⟨by decide, by decide⟩ dX12_seek_177 (by decide) (fun c177 => ?_) (fun c177 => ?_)
                              · refine li_iinc (a := k1) (lv' := [(6, .int (ii (k1 + 1))), (8, .int (ii 1)), (9, .int (ii (nx (qu fi) (gm1 k1)))), (7, .int (ii z143)), (4, .int (ii x236_4)), (3, .int (ii y95_0)), (5, .int (ii (qu fi))), (2, .int (ii (cdv (F 6) (F 7)))), (0, .ref (am 0)), (1, .int (ii 0))]) hx hb dX12_seek_361 hl (k := 3) rfl (by decide) rfl (fun ls hl => ?_)
                                refine lv_goto (tgt := 126) hx hb dX12_seek_364 (by decide) ?_
                                exact ih (k1 + 1) x236_4 (dcw (qu fi) (mvw ((gm1 k1) / 1000 % 10) ((gm1 k1) % 10) wU)) (dcq (qu fi) ((mvq ((gm1 k1) / 10000) ((gm1 k1) / 100 % 10) ((gm1 k1) % 10) qU))) wg236_31 wg236_32 w236_33 wg236_34 wg236_35 (hS2) (alike_dc _ _ _) (by omega) (by omega) (hj236.1) (by rw [hj236.2.1]; exact hlcb) (seenI_s (seenI_w hse (fun m q => QF_w hj236.2.1 hj236.2.2.1 q)) cand_n hcd hcn (fun _ => by rw [hj236.2.1, ← hval]; exact hj236.2.2.2.1)) (by have := hj236.2.2.2.2.1; omega) (by omega) H locs hP hD hS ls (lv_sub hl [0, 4, 5, 6, 7, 8, 9] rfl)
                              · exact absurd c177 (by decide)
                            · exact absurd c154 (by decide)
                          refine li_icmp_ge (tgt := 355) hx hb ⟨by omega, by omega⟩ ⟨by omega, by omega⟩ dX12_seek_236 (by decide) (fun c236 => ?_) (fun c236 => ?_)
                          · exact J236 mb lb mf nb qv qb (relO_no (hSKb) (by omega)) H locs hP hD hS ls (lv_sub hl [0, 1, 2, 3, 4, 5, 6, 7, 8, 9] rfl)
                          · refine lv_aload_n hx hb dX12_seek_239 rfl (lv_at hl 8 rfl) ?_
                            refine va_get (D := G) (ci := 11) (v := .ref (am 20)) (C := RX12) (T := TX12) (N := 52) hx hb hts in_X12 hown hK hP 0 (aM_0 _ _ _ _ _) rfl 32 (by decide) (hts _ q1297) (fun _ h9 => h9) rfl dX12_seek_240 ?_
                            refine lv_aload_n hx hb dX12_seek_243 rfl (lv_at hl 8 rfl) ?_
                            refine va_get (D := G) (ci := 11) (v := .int (ii nb)) (C := RX12) (T := TX12) (N := 52) hx hb hts in_X12 hown hK hP 0 (aM_0 _ _ _ _ _) rfl 33 (by decide) (hts _ q1298) (fun _ h9 => h9) rfl dX12_seek_244 ?_
                            refine lv_aload_n hx hb dX12_seek_247 rfl (lv_at hl 8 rfl) ?_
                            refine va_get (D := G) (ci := 11) (v := .ref (am 19)) (C := RX12) (T := TX12) (N := 52) hx hb hts in_X12 hown hK hP 0 (aM_0 _ _ _ _ _) rfl 31 (by decide) (hts _ q1296) (fun _ h9 => h9) rfl dX12_seek_248 ?_
                            refine lv_iload hx hb dX12_seek_251 (lv_at hl 0 rfl) ?_
                            refine li_iald (g := lb) hx hb hK hP 19 0 (aM_19 _ _ _ _ _) rfl (by omega) (by omega) (by decide) dX12_seek_253 ?_
                            refine lv_ldcw (v := ii 1000000000) hx hb hown (hts _ q1598) dX12_seek_254 ?_
                            refine li_icmp_ne (tgt := 265) hx hb ⟨by omega, by omega⟩ ⟨by decide, by decide⟩ dX12_seek_257 (by decide) (fun c257 => ?_) (fun c257 => ?_)
                            · refine lv_aload_n hx hb dX12_seek_265 rfl (lv_at hl 8 rfl) ?_
                              refine va_get (D := G) (ci := 11) (v := .ref (am 20)) (C := RX12) (T := TX12) (N := 52) hx hb hts in_X12 hown hK hP 0 (aM_0 _ _ _ _ _) rfl 32 (by decide) (hts _ q1297) (fun _ h9 => h9) rfl dX12_seek_266 ?_
                              refine lv_aload_n hx hb dX12_seek_269 rfl (lv_at hl 8 rfl) ?_
                              refine va_get (D := G) (ci := 11) (v := .int (ii nb)) (C := RX12) (T := TX12) (N := 52) hx hb hts in_X12 hown hK hP 0 (aM_0 _ _ _ _ _) rfl 33 (by decide) (hts _ q1298) (fun _ h9 => h9) rfl dX12_seek_270 ?_
                              refine li_iald (g := mf) hx hb hK hP 20 0 (aM_20 _ _ _ _ _) rfl (by omega) (by omega) (by decide) dX12_seek_273 ?_
                              refine li_iast (g := mf) (W2 := wM am ty τ (up (up (up (up (up (up (up (up (up ρ 29 gm1) 30 (sc (nm1))) 31 lb) 33 (sc (nb))) 34 qv) 35 qb) 27 (dcw (qu fi) (mvw ((gm1 k1) / 1000 % 10) ((gm1 k1) % 10) wU))) 28 (dcq (qu fi) ((mvq ((gm1 k1) / 10000) ((gm1 k1) / 100 % 10) ((gm1 k1) % 10) qU)))) 32 (ug mf nb (mf nb))) ++ cs) hx hb hK hP hD hS 20 0 (aM_20 _ _ _ _ _) rfl (by omega) (by omega) (by decide) rfl dX12_seek_274 (fun H locs hP hD hS => ?_)
                              refine lv_aload_n hx hb dX12_seek_275 rfl (lv_at hl 8 rfl) ?_
                              refine lv_dup hx hb dX12_seek_276 rfl ?_
                              refine va_get (D := G) (ci := 11) (v := .int (ii nb)) (C := RX12) (T := TX12) (N := 52) hx hb hts in_X12 hown hK hP 0 (aM_0 _ _ _ _ _) rfl 33 (by decide) (hts _ q1298) (fun _ h9 => h9) rfl dX12_seek_277 ?_
                              refine lv_aload_n hx hb dX12_seek_280 rfl (lv_at hl 8 rfl) ?_
                              refine va_get (D := G) (ci := 11) (v := .ref (am 19)) (C := RX12) (T := TX12) (N := 52) hx hb hts in_X12 hown hK hP 0 (aM_0 _ _ _ _ _) rfl 31 (by decide) (hts _ q1296) (fun _ h9 => h9) rfl dX12_seek_281 ?_
                              refine lv_iload hx hb dX12_seek_284 (lv_at hl 0 rfl) ?_
                              refine li_iald (g := lb) hx hb hK hP 19 0 (aM_19 _ _ _ _ _) rfl (by omega) (by omega) (by decide) dX12_seek_286 ?_
                              refine lv_ldcw (v := ii 1000000000) hx hb hown (hts _ q1598) dX12_seek_287 ?_
                              refine li_icmp_ne (tgt := 297) hx hb ⟨by omega, by omega⟩ ⟨by decide, by decide⟩ dX12_seek_290 (by decide) (fun c290 => ?_) (fun c290 => ?_)
                              · refine li_iconst hx hb dX12_seek_297 ?_
                                refine li_add hx hb dX12_seek_298 ?_
                                refine va_put (D := G) (ci := 11) (v := .int (ii (nb + 0))) (ty := .int) (C := RX12) (T := TX12) (N := 52) hx hb hts in_X12 tyX12 tyX12_ok nmX12 hown hK hP hD hS 0 (aM_0 _ _ _ _ _) rfl 33 (by decide) (hts _ q1298) (fun _ h9 => h9) rfl (tyX12_ok 33 (by decide)) rfl rfl (Nat.le_of_ble_eq_true rfl) dX12_seek_299 (fun H locs hP hD hS => ?_)
                                have hP : va_P G gcl (wM am ty τ (up (up (up (up (up (up (up (up (up ρ 29 gm1) 30 (sc (nm1))) 31 lb) 34 qv) 35 qb) 27 (dcw (qu fi) (mvw ((gm1 k1) / 1000 % 10) ((gm1 k1) % 10) wU))) 28 (dcq (qu fi) ((mvq ((gm1 k1) / 10000) ((gm1 k1) / 100 % 10) ((gm1 k1) % 10) qU)))) 32 (ug mf nb (mf nb))) 33 (sc (nb + 0))) ++ cs) H := hP
                                have hD : va_D A (wM am ty τ (up (up (up (up (up (up (up (up (up ρ 29 gm1) 30 (sc (nm1))) 31 lb) 34 qv) 35 qb) 27 (dcw (qu fi) (mvw ((gm1 k1) / 1000 % 10) ((gm1 k1) % 10) wU))) 28 (dcq (qu fi) ((mvq ((gm1 k1) / 10000) ((gm1 k1) / 100 % 10) ((gm1 k1) % 10) qU)))) 32 (ug mf nb (mf nb))) 33 (sc (nb + 0))) ++ cs) := hD
                                refine lv_aload_n hx hb dX12_seek_302 rfl (lv_at hl 8 rfl) ?_
                                refine va_get (D := G) (ci := 11) (v := .ref (am 19)) (C := RX12) (T := TX12) (N := 52) hx hb hts in_X12 hown hK hP 0 (aM_0 _ _ _ _ _) rfl 31 (by decide) (hts _ q1296) (fun _ h9 => h9) rfl dX12_seek_303 ?_
                                refine lv_iload hx hb dX12_seek_306 (lv_at hl 0 rfl) ?_
                                refine lv_aload_n hx hb dX12_seek_308 rfl (lv_at hl 8 rfl) ?_
                                refine va_get (D := G) (ci := 11) (v := .ref (am 19)) (C := RX12) (T := TX12) (N := 52) hx hb hts in_X12 hown hK hP 0 (aM_0 _ _ _ _ _) rfl 31 (by decide) (hts _ q1296) (fun _ h9 => h9) rfl dX12_seek_309 ?_
                                refine lv_iload hx hb dX12_seek_312 (lv_at hl 6 rfl) ?_
                                refine li_iald (g := lb) hx hb hK hP 19 0 (aM_19 _ _ _ _ _) rfl (by omega) (by omega) (by decide) dX12_seek_314 ?_
                                refine lv_iload hx hb dX12_seek_315 (lv_at hl 2 rfl) ?_
                                refine li_add hx hb dX12_seek_317 ?_
                                refine li_iast (g := lb) (W2 := wM am ty τ (up (up (up (up (up (up (up (up (up ρ 29 gm1) 30 (sc (nm1))) 34 qv) 35 qb) 27 (dcw (qu fi) (mvw ((gm1 k1) / 1000 % 10) ((gm1 k1) % 10) wU))) 28 (dcq (qu fi) ((mvq ((gm1 k1) / 10000) ((gm1 k1) / 100 % 10) ((gm1 k1) % 10) qU)))) 32 (ug mf nb (mf nb))) 33 (sc (nb + 0))) 31 (ug lb (nx (qu fi) (gm1 k1)) (lb (qu fi) + z143))) ++ cs) hx hb hK hP hD hS 19 0 (aM_19 _ _ _ _ _) rfl (by omega) (by omega) (by decide) rfl dX12_seek_318 (fun H locs hP hD hS => ?_)
                                refine lv_aload_n hx hb dX12_seek_319 rfl (lv_at hl 8 rfl) ?_
                                refine va_get (D := G) (ci := 11) (v := .ref (am 22)) (C := RX12) (T := TX12) (N := 52) hx hb hts in_X12 hown hK hP 0 (aM_0 _ _ _ _ _) rfl 35 (by decide) (hts _ q1300) (fun _ h9 => h9) rfl dX12_seek_320 ?_
                                refine lv_iload hx hb dX12_seek_323 (lv_at hl 0 rfl) ?_
                                refine li_zald (g := qb) hx hb hK hP 22 1 (aM_22 _ _ _ _ _) rfl (by omega) (by omega) (by decide) dX12_seek_325 ?_
                                refine li_if_ne (tgt := 355) hx hb ⟨by omega, by omega⟩ dX12_seek_326 (by decide) (fun c326 => ?_) (fun c326 => ?_)
                                · exact J236 mb (ug lb (nx (qu fi) (gm1 k1)) (lb (qu fi) + z143)) (ug mf nb (mf nb)) (nb + 0) qv qb (by have h := relO_q (hSKb) hic hlcb ⟨gm1 k1, hleg, hval, rfl⟩ hnx (by omega) (by omega) c236 (by omega); rw [if_neg c257, if_neg c257] at h; rw [ug_same (g := mf) (k := nb) rfl, Int.add_zero]; exact h) H locs hP hD hS ls (lv_sub hl [0, 1, 2, 3, 4, 5, 6, 7, 8, 9] rfl)
                                · refine lv_aload_n hx hb dX12_seek_329 rfl (lv_at hl 8 rfl) ?_
                                  refine va_get (D := G) (ci := 11) (v := .ref (am 22)) (C := RX12) (T := TX12) (N := 52) hx hb hts in_X12 hown hK hP 0 (aM_0 _ _ _ _ _) rfl 35 (by decide) (hts _ q1300) (fun _ h9 => h9) rfl dX12_seek_330 ?_
                                  refine lv_iload hx hb dX12_seek_333 (lv_at hl 0 rfl) ?_
                                  refine li_iconst hx hb dX12_seek_335 ?_
                                  refine li_zast (g := qb) (W2 := wM am ty τ (up (up (up (up (up (up (up (up (up ρ 29 gm1) 30 (sc (nm1))) 34 qv) 27 (dcw (qu fi) (mvw ((gm1 k1) / 1000 % 10) ((gm1 k1) % 10) wU))) 28 (dcq (qu fi) ((mvq ((gm1 k1) / 10000) ((gm1 k1) / 100 % 10) ((gm1 k1) % 10) qU)))) 32 (ug mf nb (mf nb))) 33 (sc (nb + 0))) 31 (ug lb (nx (qu fi) (gm1 k1)) (lb (qu fi) + z143))) 35 (ug qb (nx (qu fi) (gm1 k1)) 1)) ++ cs) hx hb hK hP hD hS 22 1 (aM_22 _ _ _ _ _) rfl (by omega) (by omega) (by decide) (by omega) rfl dX12_seek_336 (fun H locs hP hD hS => ?_)
                                  refine lv_aload_n hx hb dX12_seek_337 rfl (lv_at hl 8 rfl) ?_
                                  refine va_get (D := G) (ci := 11) (v := .ref (am 21)) (C := RX12) (T := TX12) (N := 52) hx hb hts in_X12 hown hK hP 0 (aM_0 _ _ _ _ _) rfl 34 (by decide) (hts _ q1299) (fun _ h9 => h9) rfl dX12_seek_338 ?_
                                  refine lv_iload_n hx hb dX12_seek_341 rfl (lv_at hl 5 rfl) ?_
                                  refine lv_iload hx hb dX12_seek_342 (lv_at hl 4 rfl) ?_
                                  refine li_add hx hb dX12_seek_344 ?_
                                  refine li_sipush hx hb dX12_seek_345 (by decide) ?_
                                  refine li_rem hx hb (by omega) (by omega) (by omega) (by omega) dX12_seek_348 ?_
                                  refine lv_iload hx hb dX12_seek_349 (lv_at hl 0 rfl) ?_
                                  refine li_iast (g := qv) (W2 := wM am ty τ (up (up (up (up (up (up (up (up (up ρ 29 gm1) 30 (sc (nm1))) 27 (dcw (qu fi) (mvw ((gm1 k1) / 1000 % 10) ((gm1 k1) % 10) wU))) 28 (dcq (qu fi) ((mvq ((gm1 k1) / 10000) ((gm1 k1) / 100 % 10) ((gm1 k1) % 10) qU)))) 32 (ug mf nb (mf nb))) 33 (sc (nb + 0))) 31 (ug lb (nx (qu fi) (gm1 k1)) (lb (qu fi) + z143))) 35 (ug qb (nx (qu fi) (gm1 k1)) 1)) 34 (ug qv ((y95_0 + mb) % 4500) (nx (qu fi) (gm1 k1)))) ++ cs) hx hb hK hP hD hS 21 0 (aM_21 _ _ _ _ _) rfl (by omega) (by omega) (by decide) rfl dX12_seek_351 (fun H locs hP hD hS => ?_)
                                  refine li_iinc (a := mb) (lv' := [(4, .int (ii (mb + 1))), (9, .int (ii (nx (qu fi) (gm1 k1)))), (8, .int (ii 0)), (7, .int (ii z143)), (6, .int (ii k1)), (3, .int (ii y95_0)), (5, .int (ii (qu fi))), (2, .int (ii (cdv (F 6) (F 7)))), (0, .ref (am 0)), (1, .int (ii 0))]) hx hb dX12_seek_352 hl (k := 4) rfl (by decide) rfl (fun ls hl => ?_)
                                  exact J236 (mb + 1) (ug lb (nx (qu fi) (gm1 k1)) (lb (qu fi) + z143)) (ug mf nb (mf nb)) (nb + 0) (ug qv ((y95_0 + mb) % 4500) (nx (qu fi) (gm1 k1))) (ug qb (nx (qu fi) (gm1 k1)) 1) (by have h := relO_n (hSKb) hic hlcb ⟨gm1 k1, hleg, hval, rfl⟩ hnx (by omega) (by omega) c236 (by omega); rw [if_neg c257, if_neg c257] at h; rw [ug_same (g := mf) (k := nb) rfl, Int.add_zero]; exact h) H locs hP hD hS ls (lv_sub hl [1, 2, 3, 4, 0, 5, 6, 7, 8, 9] rfl)
                              · exfalso
                                exact absurd c290 c257
                            · refine lv_iload hx hb dX12_seek_260 (lv_at hl 0 rfl) ?_
                              refine lv_goto (tgt := 274) hx hb dX12_seek_262 (by decide) ?_
                              refine li_iast (g := mf) (W2 := wM am ty τ (up (up (up (up (up (up (up (up (up ρ 29 gm1) 30 (sc (nm1))) 31 lb) 33 (sc (nb))) 34 qv) 35 qb) 27 (dcw (qu fi) (mvw ((gm1 k1) / 1000 % 10) ((gm1 k1) % 10) wU))) 28 (dcq (qu fi) ((mvq ((gm1 k1) / 10000) ((gm1 k1) / 100 % 10) ((gm1 k1) % 10) qU)))) 32 (ug mf nb (nx (qu fi) (gm1 k1)))) ++ cs) hx hb hK hP hD hS 20 0 (aM_20 _ _ _ _ _) rfl (by omega) (by omega) (by decide) rfl dX12_seek_274 (fun H locs hP hD hS => ?_)
                              refine lv_aload_n hx hb dX12_seek_275 rfl (lv_at hl 8 rfl) ?_
                              refine lv_dup hx hb dX12_seek_276 rfl ?_
                              refine va_get (D := G) (ci := 11) (v := .int (ii nb)) (C := RX12) (T := TX12) (N := 52) hx hb hts in_X12 hown hK hP 0 (aM_0 _ _ _ _ _) rfl 33 (by decide) (hts _ q1298) (fun _ h9 => h9) rfl dX12_seek_277 ?_
                              refine lv_aload_n hx hb dX12_seek_280 rfl (lv_at hl 8 rfl) ?_
                              refine va_get (D := G) (ci := 11) (v := .ref (am 19)) (C := RX12) (T := TX12) (N := 52) hx hb hts in_X12 hown hK hP 0 (aM_0 _ _ _ _ _) rfl 31 (by decide) (hts _ q1296) (fun _ h9 => h9) rfl dX12_seek_281 ?_
                              refine lv_iload hx hb dX12_seek_284 (lv_at hl 0 rfl) ?_
                              refine li_iald (g := lb) hx hb hK hP 19 0 (aM_19 _ _ _ _ _) rfl (by omega) (by omega) (by decide) dX12_seek_286 ?_
                              refine lv_ldcw (v := ii 1000000000) hx hb hown (hts _ q1598) dX12_seek_287 ?_
                              refine li_icmp_ne (tgt := 297) hx hb ⟨by omega, by omega⟩ ⟨by decide, by decide⟩ dX12_seek_290 (by decide) (fun c290 => ?_) (fun c290 => ?_)
                              · exfalso
                                exact absurd c257 c290
                              · refine li_iconst hx hb dX12_seek_293 ?_
                                refine lv_goto (tgt := 298) hx hb dX12_seek_294 (by decide) ?_
                                refine li_add hx hb dX12_seek_298 ?_
                                refine va_put (D := G) (ci := 11) (v := .int (ii (nb + 1))) (ty := .int) (C := RX12) (T := TX12) (N := 52) hx hb hts in_X12 tyX12 tyX12_ok nmX12 hown hK hP hD hS 0 (aM_0 _ _ _ _ _) rfl 33 (by decide) (hts _ q1298) (fun _ h9 => h9) rfl (tyX12_ok 33 (by decide)) rfl rfl (Nat.le_of_ble_eq_true rfl) dX12_seek_299 (fun H locs hP hD hS => ?_)
                                have hP : va_P G gcl (wM am ty τ (up (up (up (up (up (up (up (up (up ρ 29 gm1) 30 (sc (nm1))) 31 lb) 34 qv) 35 qb) 27 (dcw (qu fi) (mvw ((gm1 k1) / 1000 % 10) ((gm1 k1) % 10) wU))) 28 (dcq (qu fi) ((mvq ((gm1 k1) / 10000) ((gm1 k1) / 100 % 10) ((gm1 k1) % 10) qU)))) 32 (ug mf nb (nx (qu fi) (gm1 k1)))) 33 (sc (nb + 1))) ++ cs) H := hP
                                have hD : va_D A (wM am ty τ (up (up (up (up (up (up (up (up (up ρ 29 gm1) 30 (sc (nm1))) 31 lb) 34 qv) 35 qb) 27 (dcw (qu fi) (mvw ((gm1 k1) / 1000 % 10) ((gm1 k1) % 10) wU))) 28 (dcq (qu fi) ((mvq ((gm1 k1) / 10000) ((gm1 k1) / 100 % 10) ((gm1 k1) % 10) qU)))) 32 (ug mf nb (nx (qu fi) (gm1 k1)))) 33 (sc (nb + 1))) ++ cs) := hD
                                refine lv_aload_n hx hb dX12_seek_302 rfl (lv_at hl 8 rfl) ?_
                                refine va_get (D := G) (ci := 11) (v := .ref (am 19)) (C := RX12) (T := TX12) (N := 52) hx hb hts in_X12 hown hK hP 0 (aM_0 _ _ _ _ _) rfl 31 (by decide) (hts _ q1296) (fun _ h9 => h9) rfl dX12_seek_303 ?_
                                refine lv_iload hx hb dX12_seek_306 (lv_at hl 0 rfl) ?_
                                refine lv_aload_n hx hb dX12_seek_308 rfl (lv_at hl 8 rfl) ?_
                                refine va_get (D := G) (ci := 11) (v := .ref (am 19)) (C := RX12) (T := TX12) (N := 52) hx hb hts in_X12 hown hK hP 0 (aM_0 _ _ _ _ _) rfl 31 (by decide) (hts _ q1296) (fun _ h9 => h9) rfl dX12_seek_309 ?_
                                refine lv_iload hx hb dX12_seek_312 (lv_at hl 6 rfl) ?_
                                refine li_iald (g := lb) hx hb hK hP 19 0 (aM_19 _ _ _ _ _) rfl (by omega) (by omega) (by decide) dX12_seek_314 ?_
                                refine lv_iload hx hb dX12_seek_315 (lv_at hl 2 rfl) ?_
                                refine li_add hx hb dX12_seek_317 ?_
                                refine li_iast (g := lb) (W2 := wM am ty τ (up (up (up (up (up (up (up (up (up ρ 29 gm1) 30 (sc (nm1))) 34 qv) 35 qb) 27 (dcw (qu fi) (mvw ((gm1 k1) / 1000 % 10) ((gm1 k1) % 10) wU))) 28 (dcq (qu fi) ((mvq ((gm1 k1) / 10000) ((gm1 k1) / 100 % 10) ((gm1 k1) % 10) qU)))) 32 (ug mf nb (nx (qu fi) (gm1 k1)))) 33 (sc (nb + 1))) 31 (ug lb (nx (qu fi) (gm1 k1)) (lb (qu fi) + z143))) ++ cs) hx hb hK hP hD hS 19 0 (aM_19 _ _ _ _ _) rfl (by omega) (by omega) (by decide) rfl dX12_seek_318 (fun H locs hP hD hS => ?_)
                                refine lv_aload_n hx hb dX12_seek_319 rfl (lv_at hl 8 rfl) ?_
                                refine va_get (D := G) (ci := 11) (v := .ref (am 22)) (C := RX12) (T := TX12) (N := 52) hx hb hts in_X12 hown hK hP 0 (aM_0 _ _ _ _ _) rfl 35 (by decide) (hts _ q1300) (fun _ h9 => h9) rfl dX12_seek_320 ?_
                                refine lv_iload hx hb dX12_seek_323 (lv_at hl 0 rfl) ?_
                                refine li_zald (g := qb) hx hb hK hP 22 1 (aM_22 _ _ _ _ _) rfl (by omega) (by omega) (by decide) dX12_seek_325 ?_
                                refine li_if_ne (tgt := 355) hx hb ⟨by omega, by omega⟩ dX12_seek_326 (by decide) (fun c326 => ?_) (fun c326 => ?_)
                                · exact J236 mb (ug lb (nx (qu fi) (gm1 k1)) (lb (qu fi) + z143)) (ug mf nb (nx (qu fi) (gm1 k1))) (nb + 1) qv qb (by have h := relO_q (hSKb) hic hlcb ⟨gm1 k1, hleg, hval, rfl⟩ hnx (by omega) (by omega) c236 (by omega); rw [if_pos c257, if_pos c257] at h; exact h) H locs hP hD hS ls (lv_sub hl [0, 1, 2, 3, 4, 5, 6, 7, 8, 9] rfl)
                                · refine lv_aload_n hx hb dX12_seek_329 rfl (lv_at hl 8 rfl) ?_
                                  refine va_get (D := G) (ci := 11) (v := .ref (am 22)) (C := RX12) (T := TX12) (N := 52) hx hb hts in_X12 hown hK hP 0 (aM_0 _ _ _ _ _) rfl 35 (by decide) (hts _ q1300) (fun _ h9 => h9) rfl dX12_seek_330 ?_
                                  refine lv_iload hx hb dX12_seek_333 (lv_at hl 0 rfl) ?_
                                  refine li_iconst hx hb dX12_seek_335 ?_
                                  refine li_zast (g := qb) (W2 := wM am ty τ (up (up (up (up (up (up (up (up (up ρ 29 gm1) 30 (sc (nm1))) 34 qv) 27 (dcw (qu fi) (mvw ((gm1 k1) / 1000 % 10) ((gm1 k1) % 10) wU))) 28 (dcq (qu fi) ((mvq ((gm1 k1) / 10000) ((gm1 k1) / 100 % 10) ((gm1 k1) % 10) qU)))) 32 (ug mf nb (nx (qu fi) (gm1 k1)))) 33 (sc (nb + 1))) 31 (ug lb (nx (qu fi) (gm1 k1)) (lb (qu fi) + z143))) 35 (ug qb (nx (qu fi) (gm1 k1)) 1)) ++ cs) hx hb hK hP hD hS 22 1 (aM_22 _ _ _ _ _) rfl (by omega) (by omega) (by decide) (by omega) rfl dX12_seek_336 (fun H locs hP hD hS => ?_)
                                  refine lv_aload_n hx hb dX12_seek_337 rfl (lv_at hl 8 rfl) ?_
                                  refine va_get (D := G) (ci := 11) (v := .ref (am 21)) (C := RX12) (T := TX12) (N := 52) hx hb hts in_X12 hown hK hP 0 (aM_0 _ _ _ _ _) rfl 34 (by decide) (hts _ q1299) (fun _ h9 => h9) rfl dX12_seek_338 ?_
                                  refine lv_iload_n hx hb dX12_seek_341 rfl (lv_at hl 5 rfl) ?_
                                  refine lv_iload hx hb dX12_seek_342 (lv_at hl 4 rfl) ?_
                                  refine li_add hx hb dX12_seek_344 ?_
                                  refine li_sipush hx hb dX12_seek_345 (by decide) ?_
                                  refine li_rem hx hb (by omega) (by omega) (by omega) (by omega) dX12_seek_348 ?_
                                  refine lv_iload hx hb dX12_seek_349 (lv_at hl 0 rfl) ?_
                                  refine li_iast (g := qv) (W2 := wM am ty τ (up (up (up (up (up (up (up (up (up ρ 29 gm1) 30 (sc (nm1))) 27 (dcw (qu fi) (mvw ((gm1 k1) / 1000 % 10) ((gm1 k1) % 10) wU))) 28 (dcq (qu fi) ((mvq ((gm1 k1) / 10000) ((gm1 k1) / 100 % 10) ((gm1 k1) % 10) qU)))) 32 (ug mf nb (nx (qu fi) (gm1 k1)))) 33 (sc (nb + 1))) 31 (ug lb (nx (qu fi) (gm1 k1)) (lb (qu fi) + z143))) 35 (ug qb (nx (qu fi) (gm1 k1)) 1)) 34 (ug qv ((y95_0 + mb) % 4500) (nx (qu fi) (gm1 k1)))) ++ cs) hx hb hK hP hD hS 21 0 (aM_21 _ _ _ _ _) rfl (by omega) (by omega) (by decide) rfl dX12_seek_351 (fun H locs hP hD hS => ?_)
                                  refine li_iinc (a := mb) (lv' := [(4, .int (ii (mb + 1))), (9, .int (ii (nx (qu fi) (gm1 k1)))), (8, .int (ii 0)), (7, .int (ii z143)), (6, .int (ii k1)), (3, .int (ii y95_0)), (5, .int (ii (qu fi))), (2, .int (ii (cdv (F 6) (F 7)))), (0, .ref (am 0)), (1, .int (ii 0))]) hx hb dX12_seek_352 hl (k := 4) rfl (by decide) rfl (fun ls hl => ?_)
                                  exact J236 (mb + 1) (ug lb (nx (qu fi) (gm1 k1)) (lb (qu fi) + z143)) (ug mf nb (nx (qu fi) (gm1 k1))) (nb + 1) (ug qv ((y95_0 + mb) % 4500) (nx (qu fi) (gm1 k1))) (ug qb (nx (qu fi) (gm1 k1)) 1) (by have h := relO_n (hSKb) hic hlcb ⟨gm1 k1, hleg, hval, rfl⟩ hnx (by omega) (by omega) c236 (by omega); rw [if_pos c257, if_pos c257] at h; exact h) H locs hP hD hS ls (lv_sub hl [1, 2, 3, 4, 0, 5, 6, 7, 8, 9] rfl)
                        · exact absurd c196 (by decide)
                  · exact absurd c154 (by decide)
            exact L126 _ 0 (ma + (-1)) (dcw (qu fi) wT) (dcq (qu fi) qT) la me n8 qu (ug qd (qu fi) 0) (hS1) (hal120) (by omega) (by omega) (hSKp) (hlc) (seenI_0 _ cand_n) (by omega) (Nat.lt_succ_self _) H locs hP hD hS ls (lv_sub hl [0, 1, 2, 3, 4, 5, 6] rfl)
          refine li_icmp_ne (tgt := 102) hx hb ⟨by omega, by omega⟩ ⟨by decide, by decide⟩ dX12_seek_95 (by decide) (fun c95 => ?_) (fun c95 => ?_)
          · refine lv_iload_n hx hb dX12_seek_102 rfl (lv_at hl 2 rfl) ?_
            refine li_iconst hx hb dX12_seek_103 ?_
            refine li_add hx hb dX12_seek_104 ?_
            exact J95 (fi + 1) (by omega) H locs hP hD hS ls (lv_sub hl [0, 1, 2, 3, 4, 5] rfl)
          · refine li_iconst hx hb dX12_seek_98 ?_
            refine lv_goto (tgt := 105) hx hb dX12_seek_99 (by decide) ?_
            exact J95 0 (by omega) H locs hP hD hS ls (lv_sub hl [0, 1, 2, 3, 4, 5] rfl)
    exact L78 _ 1 0 (ρ 27) (ρ 28) (ug la0 (cdv (F 6) (F 7)) 0) (ug (ρ 32) 0 (cdv (F 6) (F 7))) 1 (ug (ρ 34) 0 (cdv (F 6) (F 7))) (ug qd0 (cdv (F 6) (F 7)) 1) (hSt) (SK.start _ hst hla hqa) (Nat.lt_succ_self _) H locs hP hD hS ls (lv_sub hl [0, 1, 2, 3, 4] rfl)
  have L6 : ∀ (n : Nat) (i1 : Int) (la0 : Int → Int) (qd0 : Int → Int) (_ : 0 ≤ i1) (_ : i1 ≤ 4500) (_ : ∀ c, 0 ≤ c → c < i1 → la0 c = FARc) (_ : ∀ c, 0 ≤ c → c < i1 → qd0 c = 0) (_ : (4500 - i1).toNat < n) (H : Heap) (locs : List Loc) (_ : va_P G gcl (wM am ty τ (up (up (up (up ρ 29 gm1) 30 (sc (nm1))) 31 la0) 35 qd0) ++ cs) H) (_ : va_D A (wM am ty τ (up (up (up (up ρ 29 gm1) 30 (sc (nm1))) 31 la0) 35 qd0) ++ cs)) (_ : va_S A s.heap H locs) (ls : Array Slot), lv_has ls 10 [(2, .int (ii i1)), (0, .ref (am 0)), (1, .int (ii 0))] → W p l e (rm4 3 0 0 81) s m args below meth c H locs 0 0 Q (F0 m 6 ls []) := by
    intro n
    induction n with
    | zero =>
      intro i1 la0 qd0 hi0 hi1 hla hqa hm
      exact absurd hm (Nat.not_lt_zero _)
    | succ n ih =>
      intro i1 la0 qd0 hi0 hi1 hla hqa hm H locs hP hD hS ls hl
      refine lv_iload_n hx hb dX12_seek_6 rfl (lv_at hl 0 rfl) ?_
      refine li_sipush hx hb dX12_seek_7 (by decide) ?_
      refine li_icmp_ge (tgt := 35) hx hb ⟨by omega, by omega⟩ ⟨by decide, by decide⟩ dX12_seek_10 (by decide) (fun c10 => ?_) (fun c10 => ?_)
      · exact X6 i1 la0 qd0 (fun c h => hla c h.1 (Int.lt_of_lt_of_le h.2 c10)) (fun c h => hqa c h.1 (Int.lt_of_lt_of_le h.2 c10)) H locs hP hD hS ls (lv_sub hl [1, 2] rfl)
      · refine lv_aload_n hx hb dX12_seek_13 rfl (lv_at hl 1 rfl) ?_
        refine va_get (D := G) (ci := 11) (v := .ref (am 19)) (C := RX12) (T := TX12) (N := 52) hx hb hts in_X12 hown hK hP 0 (aM_0 _ _ _ _ _) rfl 31 (by decide) (hts _ q1296) (fun _ h9 => h9) rfl dX12_seek_14 ?_
        refine lv_iload_n hx hb dX12_seek_17 rfl (lv_at hl 0 rfl) ?_
        refine lv_ldcw (v := ii 1000000000) hx hb hown (hts _ q1598) dX12_seek_18 ?_
        refine li_iast (g := la0) (W2 := wM am ty τ (up (up (up (up ρ 29 gm1) 30 (sc (nm1))) 35 qd0) 31 (ug la0 i1 1000000000)) ++ cs) hx hb hK hP hD hS 19 0 (aM_19 _ _ _ _ _) rfl (by omega) (by omega) (by decide) rfl dX12_seek_21 (fun H locs hP hD hS => ?_)
        refine lv_aload_n hx hb dX12_seek_22 rfl (lv_at hl 1 rfl) ?_
        refine va_get (D := G) (ci := 11) (v := .ref (am 22)) (C := RX12) (T := TX12) (N := 52) hx hb hts in_X12 hown hK hP 0 (aM_0 _ _ _ _ _) rfl 35 (by decide) (hts _ q1300) (fun _ h9 => h9) rfl dX12_seek_23 ?_
        refine lv_iload_n hx hb dX12_seek_26 rfl (lv_at hl 0 rfl) ?_
        refine li_iconst hx hb dX12_seek_27 ?_
        refine li_zast (g := qd0) (W2 := wM am ty τ (up (up (up (up ρ 29 gm1) 30 (sc (nm1))) 31 (ug la0 i1 1000000000)) 35 (ug qd0 i1 0)) ++ cs) hx hb hK hP hD hS 22 1 (aM_22 _ _ _ _ _) rfl (by omega) (by omega) (by decide) (by omega) rfl dX12_seek_28 (fun H locs hP hD hS => ?_)
        refine li_iinc (a := i1) (lv' := [(2, .int (ii (i1 + 1))), (0, .ref (am 0)), (1, .int (ii 0))]) hx hb dX12_seek_29 hl (k := 0) rfl (by decide) rfl (fun ls hl => ?_)
        refine lv_goto (tgt := 6) hx hb dX12_seek_32 (by decide) ?_
        exact ih (i1 + 1) (ug la0 i1 1000000000) (ug qd0 i1 0) (by omega) (by omega) (ini_s hla) (ini_s hqa) (by omega) H locs hP hD hS ls (lv_sub hl [0, 1, 2] rfl)
  exact L6 _ 0 (ρ 31) (ρ 35) (by omega) (by omega) (fun c a b => by omega) (fun c a b => by omega) (Nat.lt_succ_self _) H locs hP hD hS ls (lv_sub hl [0, 1, 2] rfl)
set_option maxHeartbeats 4000000 in
theorem m_seekM1 (l : Launch) (G : va_G) (am : Nat → Nat) (ty : Nat → ClassId) (τ ρ : mem) (cs : va_W)  (F : mem) (hF : okF F) (hSm : Sim F τ) (hSt : wfS (ρ 27) (ρ 28)) (hZ : zerF F) : cM l yX12_seek (ws_ yX12_seek cX12_seek 10 none) (rm4 3 0 0 81) G ty (wM am ty τ ρ ++ cs) [.ref (am 0), .int (ii 1)] 0 0 (fun r W' => ∃ (wT : Int → Int) (qT : Int → Int) (gm : Int → Int) (nm : Int) (la : Int → Int) (me : Int → Int) (n8 : Int) (qu : Int → Int) (qd : Int → Int), r = none ∧ W' = wM am ty τ (up (up (up (up (up (up (up (up (up ρ 27 wT) 28 qT) 29 gm) 30 (sc (nm))) 31 la) 32 me) 33 (sc (n8))) 34 qu) 35 qd) ++ cs ∧ (wfS wT qT) ∧ (Sought (EC F) (cdv (F 6) (F 7)) la me n8) ∧ (LL (cand F) gm nm 70000) ∧ (0 ≤ nm ∧ nm ≤ 2400)) := by
  refine cM.of (by decide) (Nat.le_of_ble_eq_true rfl) ?_
  intro p e s m args below meth c A Q H locs hQ hx hb hr hml hown hlk hname hts hK hP hD hS hA hX ls hl
  have hl : lv_has ls 10 [(0, .ref (am 0)), (1, .int (ii 1))] := hl
  obtain ⟨hW, hWS, hlg⟩ := id hF
  obtain ⟨hw0, hw1, hw2, hw3, hw4, hw5, h8a, h8b, h9a, h9b, h10a, h10b⟩ := id hW
  obtain ⟨mL, mP, mR, mC, mK, mM, mA, mB, mD⟩ := id hSm
  have hst := (cdv_dig hWS.1 hWS.2).1
  obtain ⟨hst0, hst1⟩ := id hst
  refine lv_aload_n hx hb dX12_seek_0 rfl (lv_at hl 0 rfl) ?_
  refine kM (va_runV (As := []) (rest := []) ⟨hx, hb, hml, hown, hts⟩ ((m_findMovesM l G am ty τ ρ cs _ (show okF F from hF) (show Sim F τ from hSm)) H.size) (cwV 0 hts (lw_V q1562 q1564 qs55 q87 q1565) rfl rfl rfl (by decide +kernel) ⟨Nat.le_of_ble_eq_true rfl, Nat.le_of_ble_eq_true rfl⟩) (pvM (r := (RX12, TX12, 52)) hK hP hD hX 0 (aM_0 _ _ _ _ _) rfl) rfl rfl hl.1 rfl (lv_room (Nat.le_of_ble_eq_true rfl)) dX12_seek_1 ⟨Nat.le_of_ble_eq_true rfl, Nat.le_of_ble_eq_true rfl⟩) hD hS hA (fun v ws1 H locs hv hP hD hS => ?_)
  obtain ⟨gm1, nm1, rfl, rfl, hCL1, hnm1⟩ := hv
  have hP : va_P G gcl (wM am ty τ (up (up ρ 29 gm1) 30 (sc (nm1))) ++ cs) H := hP
  have hD : va_D A (wM am ty τ (up (up ρ 29 gm1) 30 (sc (nm1))) ++ cs) := hD
  have hCL1 : LL (cand F) gm1 nm1 70000 := hCL1
  have hnm1 : 0 ≤ nm1 ∧ nm1 ≤ 2400 := hnm1
  refine li_iconst hx hb dX12_seek_4 ?_
  refine lv_istore_n (lv' := [(2, .int (ii 0)), (0, .ref (am 0)), (1, .int (ii 1))]) hx hb dX12_seek_5 rfl hl (by decide) rfl (fun ls hl => ?_)
  have X6 : ∀ (i1 : Int) (la0 : Int → Int) (qd0 : Int → Int) (_ : ∀ c, inSt c → la0 c = FARc) (_ : ∀ c, inSt c → qd0 c = 0) (H : Heap) (locs : List Loc) (_ : va_P G gcl (wM am ty τ (up (up (up (up ρ 29 gm1) 30 (sc (nm1))) 31 la0) 35 qd0) ++ cs) H) (_ : va_D A (wM am ty τ (up (up (up (up ρ 29 gm1) 30 (sc (nm1))) 31 la0) 35 qd0) ++ cs)) (_ : va_S A s.heap H locs) (ls : Array Slot), lv_has ls 10 [(0, .ref (am 0)), (1, .int (ii 1))] → W p l e (rm4 3 0 0 81) s m args below meth c H locs 0 0 Q (F0 m 35 ls []) := by
    intro i1 la0 qd0 hla hqa H locs hP hD hS ls hl
    refine lv_aload_n hx hb dX12_seek_35 rfl (lv_at hl 0 rfl) ?_
    refine kR (va_runV (As := []) (rest := []) ⟨hx, hb, hml, hown, hts⟩ (m_stateNowM l G am ty τ (up (up (up (up ρ 29 gm1) 30 (sc (nm1))) 31 la0) 35 qd0) cs _ (show okF F from hF) (show Sim F τ from hSm) (show zerF F from hZ)) (cwV 0 hts (lw_V q1514 q1516 qs46 q87 q1517) rfl rfl rfl (by decide +kernel) ⟨Nat.le_of_ble_eq_true rfl, Nat.le_of_ble_eq_true rfl⟩) (pvR (r := (RX12, TX12, 52)) hK hP hD hX 0 (aM_0 _ _ _ _ _) rfl) rfl rfl hl.1 rfl (lv_room (Nat.le_of_ble_eq_true rfl)) dX12_seek_36 ⟨Nat.le_of_ble_eq_true rfl, Nat.le_of_ble_eq_true rfl⟩) (fun v hv => ?_)
    have hv := hv
    subst hv
    refine lv_istore_n (lv' := [(2, .int (ii (cdv (F 6) (F 7)))), (0, .ref (am 0)), (1, .int (ii 1))]) hx hb dX12_seek_39 rfl hl (by decide) rfl (fun ls hl => ?_)
    refine lv_aload_n hx hb dX12_seek_40 rfl (lv_at hl 1 rfl) ?_
    refine va_get (D := G) (ci := 11) (v := .ref (am 19)) (C := RX12) (T := TX12) (N := 52) hx hb hts in_X12 hown hK hP 0 (aM_0 _ _ _ _ _) rfl 31 (by decide) (hts _ q1296) (fun _ h9 => h9) rfl dX12_seek_41 ?_
    refine lv_iload_n hx hb dX12_seek_44 rfl (lv_at hl 0 rfl) ?_
    refine li_iconst hx hb dX12_seek_45 ?_
    refine li_iast (g := la0) (W2 := wM am ty τ (up (up (up (up ρ 29 gm1) 30 (sc (nm1))) 35 qd0) 31 (ug la0 (cdv (F 6) (F 7)) 0)) ++ cs) hx hb hK hP hD hS 19 0 (aM_19 _ _ _ _ _) rfl (by omega) (by omega) (by decide) rfl dX12_seek_46 (fun H locs hP hD hS => ?_)
    refine lv_aload_n hx hb dX12_seek_47 rfl (lv_at hl 1 rfl) ?_
    refine va_get (D := G) (ci := 11) (v := .ref (am 20)) (C := RX12) (T := TX12) (N := 52) hx hb hts in_X12 hown hK hP 0 (aM_0 _ _ _ _ _) rfl 32 (by decide) (hts _ q1297) (fun _ h9 => h9) rfl dX12_seek_48 ?_
    refine li_iconst hx hb dX12_seek_51 ?_
    refine lv_iload_n hx hb dX12_seek_52 rfl (lv_at hl 0 rfl) ?_
    refine li_iast (g := (ρ 32)) (W2 := wM am ty τ (up (up (up (up (up ρ 29 gm1) 30 (sc (nm1))) 35 qd0) 31 (ug la0 (cdv (F 6) (F 7)) 0)) 32 (ug (ρ 32) 0 (cdv (F 6) (F 7)))) ++ cs) hx hb hK hP hD hS 20 0 (aM_20 _ _ _ _ _) rfl (by decide) (by decide) (by decide) rfl dX12_seek_53 (fun H locs hP hD hS => ?_)
    refine lv_aload_n hx hb dX12_seek_54 rfl (lv_at hl 1 rfl) ?_
    refine li_iconst hx hb dX12_seek_55 ?_
    refine va_put (D := G) (ci := 11) (v := .int (ii 1)) (ty := .int) (C := RX12) (T := TX12) (N := 52) hx hb hts in_X12 tyX12 tyX12_ok nmX12 hown hK hP hD hS 0 (aM_0 _ _ _ _ _) rfl 33 (by decide) (hts _ q1298) (fun _ h9 => h9) rfl (tyX12_ok 33 (by decide)) rfl rfl (Nat.le_of_ble_eq_true rfl) dX12_seek_56 (fun H locs hP hD hS => ?_)
    have hP : va_P G gcl (wM am ty τ (up (up (up (up (up (up ρ 29 gm1) 30 (sc (nm1))) 35 qd0) 31 (ug la0 (cdv (F 6) (F 7)) 0)) 32 (ug (ρ 32) 0 (cdv (F 6) (F 7)))) 33 (sc (1))) ++ cs) H := hP
    have hD : va_D A (wM am ty τ (up (up (up (up (up (up ρ 29 gm1) 30 (sc (nm1))) 35 qd0) 31 (ug la0 (cdv (F 6) (F 7)) 0)) 32 (ug (ρ 32) 0 (cdv (F 6) (F 7)))) 33 (sc (1))) ++ cs) := hD
    refine lv_aload_n hx hb dX12_seek_59 rfl (lv_at hl 1 rfl) ?_
    refine va_get (D := G) (ci := 11) (v := .ref (am 21)) (C := RX12) (T := TX12) (N := 52) hx hb hts in_X12 hown hK hP 0 (aM_0 _ _ _ _ _) rfl 34 (by decide) (hts _ q1299) (fun _ h9 => h9) rfl dX12_seek_60 ?_
    refine li_iconst hx hb dX12_seek_63 ?_
    refine lv_iload_n hx hb dX12_seek_64 rfl (lv_at hl 0 rfl) ?_
    refine li_iast (g := (ρ 34)) (W2 := wM am ty τ (up (up (up (up (up (up (up ρ 29 gm1) 30 (sc (nm1))) 35 qd0) 31 (ug la0 (cdv (F 6) (F 7)) 0)) 32 (ug (ρ 32) 0 (cdv (F 6) (F 7)))) 33 (sc (1))) 34 (ug (ρ 34) 0 (cdv (F 6) (F 7)))) ++ cs) hx hb hK hP hD hS 21 0 (aM_21 _ _ _ _ _) rfl (by decide) (by decide) (by decide) rfl dX12_seek_65 (fun H locs hP hD hS => ?_)
    refine lv_aload_n hx hb dX12_seek_66 rfl (lv_at hl 1 rfl) ?_
    refine va_get (D := G) (ci := 11) (v := .ref (am 22)) (C := RX12) (T := TX12) (N := 52) hx hb hts in_X12 hown hK hP 0 (aM_0 _ _ _ _ _) rfl 35 (by decide) (hts _ q1300) (fun _ h9 => h9) rfl dX12_seek_67 ?_
    refine lv_iload_n hx hb dX12_seek_70 rfl (lv_at hl 0 rfl) ?_
    refine li_iconst hx hb dX12_seek_71 ?_
    refine li_zast (g := qd0) (W2 := wM am ty τ (up (up (up (up (up (up (up ρ 29 gm1) 30 (sc (nm1))) 31 (ug la0 (cdv (F 6) (F 7)) 0)) 32 (ug (ρ 32) 0 (cdv (F 6) (F 7)))) 33 (sc (1))) 34 (ug (ρ 34) 0 (cdv (F 6) (F 7)))) 35 (ug qd0 (cdv (F 6) (F 7)) 1)) ++ cs) hx hb hK hP hD hS 22 1 (aM_22 _ _ _ _ _) rfl (by omega) (by omega) (by decide) (by omega) rfl dX12_seek_72 (fun H locs hP hD hS => ?_)
    refine li_iconst hx hb dX12_seek_73 ?_
    refine lv_istore_n (lv' := [(3, .int (ii 0)), (2, .int (ii (cdv (F 6) (F 7)))), (0, .ref (am 0)), (1, .int (ii 1))]) hx hb dX12_seek_74 rfl hl (by decide) rfl (fun ls hl => ?_)
    refine li_iconst hx hb dX12_seek_75 ?_
    refine lv_istore (lv' := [(4, .int (ii 1)), (3, .int (ii 0)), (2, .int (ii (cdv (F 6) (F 7)))), (0, .ref (am 0)), (1, .int (ii 1))]) hx hb dX12_seek_76 hl (by decide) rfl (fun ls hl => ?_)
    have L78 : ∀ (n : Nat) (ma : Int) (fi : Int) (wT : Int → Int) (qT : Int → Int) (la : Int → Int) (me : Int → Int) (n8 : Int) (qu : Int → Int) (qd : Int → Int) (_ : wfS wT qT) (_ : SK (EC F) (cdv (F 6) (F 7)) la me n8 qd qu fi ma (fun _ => False)) (_ : (2 * smN la 4500 + ma).toNat < n) (H : Heap) (locs : List Loc) (_ : va_P G gcl (wM am ty τ (up (up (up (up (up (up (up (up (up ρ 29 gm1) 30 (sc (nm1))) 27 wT) 28 qT) 31 la) 32 me) 33 (sc (n8))) 34 qu) 35 qd) ++ cs) H) (_ : va_D A (wM am ty τ (up (up (up (up (up (up (up (up (up ρ 29 gm1) 30 (sc (nm1))) 27 wT) 28 qT) 31 la) 32 me) 33 (sc (n8))) 34 qu) 35 qd) ++ cs)) (_ : va_S A s.heap H locs) (ls : Array Slot), lv_has ls 10 [(4, .int (ii ma)), (3, .int (ii fi)), (2, .int (ii (cdv (F 6) (F 7)))), (0, .ref (am 0)), (1, .int (ii 1))] → W p l e (rm4 3 0 0 81) s m args below meth c H locs 0 0 Q (F0 m 78 ls []) := by
      intro n
      induction n with
      | zero =>
        intro ma fi wT qT la me n8 qu qd hSt hSK hm
        exact absurd hm (Nat.not_lt_zero _)
      | succ n ih =>
        intro ma fi wT qT la me n8 qu qd hSt hSK hm H locs hP hD hS ls hl
        have hf0 := hSK.f0
        have hf1 := hSK.f1
        have hm0 := hSK.m0
        have hm1 := hSK.m1
        have hsm := hSK.toMet.sm
        refine lv_iload hx hb dX12_seek_78 (lv_at hl 0 rfl) ?_
        refine li_if_le (tgt := 370) hx hb ⟨by omega, by omega⟩ dX12_seek_80 (by decide) (fun c80 => ?_) (fun c80 => ?_)
        · exact eMv hQ hx hb hr hlk hP hD hS (Nat.le_of_ble_eq_true rfl) (Nat.le_of_ble_eq_true rfl) dX12_seek_370 (⟨wT, qT, gm1, nm1, la, me, n8, qu, qd, rfl, rfl, hSt, SK.done hSK (by omega), hCL1, hnm1⟩)
        · obtain ⟨hSKp, hic, hlc, -⟩ := SK.pop hSK c80
          obtain ⟨hic0, hic1⟩ := id hic
          refine lv_aload_n hx hb dX12_seek_83 rfl (lv_at hl 3 rfl) ?_
          refine va_get (D := G) (ci := 11) (v := .ref (am 21)) (C := RX12) (T := TX12) (N := 52) hx hb hts in_X12 hown hK hP 0 (aM_0 _ _ _ _ _) rfl 34 (by decide) (hts _ q1299) (fun _ h9 => h9) rfl dX12_seek_84 ?_
          refine lv_iload_n hx hb dX12_seek_87 rfl (lv_at hl 1 rfl) ?_
          refine li_iald (g := qu) hx hb hK hP 21 0 (aM_21 _ _ _ _ _) rfl (by omega) (by omega) (by decide) dX12_seek_88 ?_
          refine lv_istore (lv' := [(5, .int (ii (qu fi))), (4, .int (ii ma)), (3, .int (ii fi)), (2, .int (ii (cdv (F 6) (F 7)))), (0, .ref (am 0)), (1, .int (ii 1))]) hx hb dX12_seek_89 hl (by decide) rfl (fun ls hl => ?_)
          refine lv_iload_n hx hb dX12_seek_91 rfl (lv_at hl 2 rfl) ?_
          refine li_sipush hx hb dX12_seek_92 (by decide) ?_
          have J95 : ∀ (y95_0 : Int) (_ : y95_0 = (fi + 1) % 4500) (H : Heap) (locs : List Loc) (_ : va_P G gcl (wM am ty τ (up (up (up (up (up (up (up (up (up ρ 29 gm1) 30 (sc (nm1))) 27 wT) 28 qT) 31 la) 32 me) 33 (sc (n8))) 34 qu) 35 qd) ++ cs) H) (_ : va_D A (wM am ty τ (up (up (up (up (up (up (up (up (up ρ 29 gm1) 30 (sc (nm1))) 27 wT) 28 qT) 31 la) 32 me) 33 (sc (n8))) 34 qu) 35 qd) ++ cs)) (_ : va_S A s.heap H locs) (ls : Array Slot), lv_has ls 10 [(5, .int (ii (qu fi))), (4, .int (ii ma)), (3, .int (ii fi)), (2, .int (ii (cdv (F 6) (F 7)))), (0, .ref (am 0)), (1, .int (ii 1))] → W p l e (rm4 3 0 0 81) s m args below meth c H locs 0 0 Q (F0 m 105 ls [.int (ii y95_0)]) := by
            intro y95_0 hj95 H locs hP hD hS ls hl
            rw [← hj95] at hSKp
            refine lv_istore_n (lv' := [(3, .int (ii y95_0)), (5, .int (ii (qu fi))), (4, .int (ii ma)), (2, .int (ii (cdv (F 6) (F 7)))), (0, .ref (am 0)), (1, .int (ii 1))]) hx hb dX12_seek_105 rfl hl (by decide) rfl (fun ls hl => ?_)
            refine li_iinc (a := ma) (lv' := [(4, .int (ii (ma + (-1)))), (3, .int (ii y95_0)), (5, .int (ii (qu fi))), (2, .int (ii (cdv (F 6) (F 7)))), (0, .ref (am 0)), (1, .int (ii 1))]) hx hb dX12_seek_106 hl (k := 2) rfl (by decide) rfl (fun ls hl => ?_)
            refine lv_aload_n hx hb dX12_seek_109 rfl (lv_at hl 4 rfl) ?_
            refine va_get (D := G) (ci := 11) (v := .ref (am 22)) (C := RX12) (T := TX12) (N := 52) hx hb hts in_X12 hown hK hP 0 (aM_0 _ _ _ _ _) rfl 35 (by decide) (hts _ q1300) (fun _ h9 => h9) rfl dX12_seek_110 ?_
            refine lv_iload hx hb dX12_seek_113 (lv_at hl 2 rfl) ?_
            refine li_iconst hx hb dX12_seek_115 ?_
            refine li_zast (g := qd) (W2 := wM am ty τ (up (up (up (up (up (up (up (up (up ρ 29 gm1) 30 (sc (nm1))) 27 wT) 28 qT) 31 la) 32 me) 33 (sc (n8))) 34 qu) 35 (ug qd (qu fi) 0)) ++ cs) hx hb hK hP hD hS 22 1 (aM_22 _ _ _ _ _) rfl (by omega) (by omega) (by decide) (by omega) rfl dX12_seek_116 (fun H locs hP hD hS => ?_)
            refine lv_aload_n hx hb dX12_seek_117 rfl (lv_at hl 4 rfl) ?_
            refine lv_iload hx hb dX12_seek_118 (lv_at hl 2 rfl) ?_
            refine kM (va_runV (As := [.int (ii (qu fi))]) (rest := []) ⟨hx, hb, hml, hown, hts⟩ ((m_openM l G am ty τ (up (up (up (up (up (up (up (up (up ρ 29 gm1) 30 (sc (nm1))) 27 wT) 28 qT) 31 la) 32 me) 33 (sc (n8))) 34 qu) 35 (ug qd (qu fi) 0)) cs (qu fi) (show inSt (qu fi) from hic)) H.size) (cwV 1 hts (lw_V q1518 q1520 qs47 q87 q1521) rfl rfl rfl (by decide +kernel) ⟨Nat.le_of_ble_eq_true rfl, Nat.le_of_ble_eq_true rfl⟩) (pvM (r := (RX12, TX12, 52)) hK hP hD hX 0 (aM_0 _ _ _ _ _) rfl) rfl rfl hl.1 rfl (lv_room (Nat.le_of_ble_eq_true rfl)) dX12_seek_120 ⟨Nat.le_of_ble_eq_true rfl, Nat.le_of_ble_eq_true rfl⟩) hD hS hA (fun v ws1 H locs hv hP hD hS => ?_)
            obtain ⟨rfl, rfl, hal120⟩ := hv
            have hP : va_P G gcl (wM am ty τ (up (up (up (up (up (up (up (up (up ρ 29 gm1) 30 (sc (nm1))) 31 la) 32 me) 33 (sc (n8))) 34 qu) 35 (ug qd (qu fi) 0)) 27 (dcw (qu fi) wT)) 28 (dcq (qu fi) qT)) ++ cs) H := hP
            have hD : va_D A (wM am ty τ (up (up (up (up (up (up (up (up (up ρ 29 gm1) 30 (sc (nm1))) 31 la) 32 me) 33 (sc (n8))) 34 qu) 35 (ug qd (qu fi) 0)) 27 (dcw (qu fi) wT)) 28 (dcq (qu fi) qT)) ++ cs) := hD
            have hal120 : alike (dcw (qu fi) wT) (dcq (qu fi) qT) (stW (qu fi)) (stQ (qu fi)) := hal120
            have hS1 : wfS (dcw (qu fi) wT) (dcq (qu fi) qT) := ⟨dcw_b hSt.1, dcq_b hSt.2⟩
            refine li_iconst hx hb dX12_seek_123 ?_
            refine lv_istore (lv' := [(6, .int (ii 0)), (4, .int (ii (ma + (-1)))), (3, .int (ii y95_0)), (5, .int (ii (qu fi))), (2, .int (ii (cdv (F 6) (F 7)))), (0, .ref (am 0)), (1, .int (ii 1))]) hx hb dX12_seek_124 hl (by decide) rfl (fun ls hl => ?_)
            have X126 : ∀ (k1 : Int) (mb : Int) (wU : Int → Int) (qU : Int → Int) (lb : Int → Int) (mf : Int → Int) (nb : Int) (qv : Int → Int) (qb : Int → Int) (_ : wfS wU qU) (_ : SK (EC F) (cdv (F 6) (F 7)) lb mf nb qb qv y95_0 mb (fun _ => False)) (_ : 0 ≤ 2 * smN lb 4500 + mb) (_ : 2 * smN lb 4500 + mb ≤ 2 * smN la 4500 + (ma - 1)) (H : Heap) (locs : List Loc) (_ : va_P G gcl (wM am ty τ (up (up (up (up (up (up (up (up (up ρ 29 gm1) 30 (sc (nm1))) 27 wU) 28 qU) 31 lb) 32 mf) 33 (sc (nb))) 34 qv) 35 qb) ++ cs) H) (_ : va_D A (wM am ty τ (up (up (up (up (up (up (up (up (up ρ 29 gm1) 30 (sc (nm1))) 27 wU) 28 qU) 31 lb) 32 mf) 33 (sc (nb))) 34 qv) 35 qb) ++ cs)) (_ : va_S A s.heap H locs) (ls : Array Slot), lv_has ls 10 [(4, .int (ii mb)), (3, .int (ii y95_0)), (2, .int (ii (cdv (F 6) (F 7)))), (0, .ref (am 0)), (1, .int (ii 1))] → W p l e (rm4 3 0 0 81) s m args below meth c H locs 0 0 Q (F0 m 367 ls []) := by
              intro k1 mb wU qU lb mf nb qv qb hSt hSK hsm2 hphi H locs hP hD hS ls hl
              refine lv_goto (tgt := 78) hx hb dX12_seek_367 (by decide) ?_
              exact ih mb y95_0 wU qU lb mf nb qv qb (hSt) (hSK) (by omega) H locs hP hD hS ls (lv_sub hl [0, 1, 2, 3, 4] rfl)
            have L126 : ∀ (n : Nat) (k1 : Int) (mb : Int) (wU : Int → Int) (qU : Int → Int) (lb : Int → Int) (mf : Int → Int) (nb : Int) (qv : Int → Int) (qb : Int → Int) (_ : wfS wU qU) (_ : alike wU qU (stW (qu fi)) (stQ (qu fi))) (_ : 0 ≤ k1) (_ : k1 ≤ nm1) (_ : SK (EC F) (cdv (F 6) (F 7)) lb mf nb qb qv y95_0 mb (fun x => x = qu fi)) (_ : lb (qu fi) ≠ FARc) (_ : seenI (cand F) (QC F (qu fi) lb) k1) (_ : 2 * smN lb 4500 + mb ≤ 2 * smN la 4500 + (ma - 1)) (_ : (nm1 - k1).toNat < n) (H : Heap) (locs : List Loc) (_ : va_P G gcl (wM am ty τ (up (up (up (up (up (up (up (up (up ρ 29 gm1) 30 (sc (nm1))) 27 wU) 28 qU) 31 lb) 32 mf) 33 (sc (nb))) 34 qv) 35 qb) ++ cs) H) (_ : va_D A (wM am ty τ (up (up (up (up (up (up (up (up (up ρ 29 gm1) 30 (sc (nm1))) 27 wU) 28 qU) 31 lb) 32 mf) 33 (sc (nb))) 34 qv) 35 qb) ++ cs)) (_ : va_S A s.heap H locs) (ls : Array Slot), lv_has ls 10 [(6, .int (ii k1)), (4, .int (ii mb)), (3, .int (ii y95_0)), (5, .int (ii (qu fi))), (2, .int (ii (cdv (F 6) (F 7)))), (0, .ref (am 0)), (1, .int (ii 1))] → W p l e (rm4 3 0 0 81) s m args below meth c H locs 0 0 Q (F0 m 126 ls []) := by
              intro n
              induction n with
              | zero =>
                intro k1 mb wU qU lb mf nb qv qb hSt hal hk0 hk1 hSKb hlcb hse hphi hm
                exact absurd hm (Nat.not_lt_zero _)
              | succ n ih =>
                intro k1 mb wU qU lb mf nb qv qb hSt hal hk0 hk1 hSKb hlcb hse hphi hm H locs hP hD hS ls hl
                refine lv_iload hx hb dX12_seek_126 (lv_at hl 0 rfl) ?_
                refine lv_aload_n hx hb dX12_seek_128 rfl (lv_at hl 5 rfl) ?_
                refine va_get (D := G) (ci := 11) (v := .int (ii nm1)) (C := RX12) (T := TX12) (N := 52) hx hb hts in_X12 hown hK hP 0 (aM_0 _ _ _ _ _) rfl 30 (by decide) (hts _ q1295) (fun _ h9 => h9) rfl dX12_seek_129 ?_
                refine li_icmp_ge (tgt := 367) hx hb ⟨by omega, by omega⟩ ⟨by omega, by omega⟩ dX12_seek_132 (by decide) (fun c132 => ?_) (fun c132 => ?_)
                · exact X126 k1 mb wU qU lb mf nb qv qb (hSt) (SK.fin hSKb (QC_all hW (seenI_all hse hCL1 cand_b (by omega)))) (by have := hSKb.toMet.sm; have := hSKb.m0; omega) (by omega) H locs hP hD hS ls (lv_sub hl [1, 2, 4, 5, 6] rfl)
                · obtain ⟨ha0, ha1, hcd, hcn⟩ := LL_at hCL1 (by decide) hk0 c132
                  have hdd := isT_m hcd.1
                  have hm00 := hcd.1.1
                  have hm01 := hcd.1.2.1
                  have hvb := mvV_b hW hcd.1
                  have hf0 := hSKb.f0
                  have hf1 := hSKb.f1
                  refine lv_aload_n hx hb dX12_seek_135 rfl (lv_at hl 5 rfl) ?_
                  refine lv_aload_n hx hb dX12_seek_136 rfl (lv_at hl 5 rfl) ?_
                  refine va_get (D := G) (ci := 11) (v := .ref (am 18)) (C := RX12) (T := TX12) (N := 52) hx hb hts in_X12 hown hK hP 0 (aM_0 _ _ _ _ _) rfl 29 (by decide) (hts _ q1294) (fun _ h9 => h9) rfl dX12_seek_137 ?_
                  refine lv_iload hx hb dX12_seek_140 (lv_at hl 0 rfl) ?_
                  refine li_iald (g := gm1) hx hb hK hP 18 0 (aM_18 _ _ _ _ _) rfl (by omega) (by omega) (by decide) dX12_seek_142 ?_
                  refine kR (va_runV (As := [.int (ii (gm1 k1))]) (rest := []) ⟨hx, hb, hml, hown, hts⟩ (m_minutesOfM l G am ty τ (up (up (up (up (up (up (up (up (up ρ 29 gm1) 30 (sc (nm1))) 27 wU) 28 qU) 31 lb) 32 mf) 33 (sc (nb))) 34 qv) 35 qb) cs (gm1 k1) _ (show okF F from hF) (show Sim F τ from hSm) (show wfS wU qU from hSt) (show isT (gm1 k1) from hcd.1)) (cwV 1 hts (lw_V q1522 q1524 qs48 q87 q1525) rfl rfl rfl (by decide +kernel) ⟨Nat.le_of_ble_eq_true rfl, Nat.le_of_ble_eq_true rfl⟩) (pvR (r := (RX12, TX12, 52)) hK hP hD hX 0 (aM_0 _ _ _ _ _) rfl) rfl rfl hl.1 rfl (lv_room (Nat.le_of_ble_eq_true rfl)) dX12_seek_143 ⟨Nat.le_of_ble_eq_true rfl, Nat.le_of_ble_eq_true rfl⟩) (fun v hv => ?_)
                  obtain ⟨z143, rfl, hz143⟩ := hv
                  have hz143 : (mvOk F wU qU (gm1 k1) ∧ z143 = mvV F (gm1 k1)) ∨ (¬ mvOk F wU qU (gm1 k1) ∧ z143 = -1) := hz143
                  have hzr143 : -1 ≤ z143 ∧ z143 ≤ 312 := mz_b hW (hcd.1) hz143
                  refine lv_istore (lv' := [(7, .int (ii z143)), (6, .int (ii k1)), (4, .int (ii mb)), (3, .int (ii y95_0)), (5, .int (ii (qu fi))), (2, .int (ii (cdv (F 6) (F 7)))), (0, .ref (am 0)), (1, .int (ii 1))]) hx hb dX12_seek_146 hl (by decide) rfl (fun ls hl => ?_)
                  refine li_iconst hx hb dX12_seek_148 ?_
                  refine lv_istore (lv' := [(8, .int (ii 0)), (7, .int (ii z143)), (6, .int (ii k1)), (4, .int (ii mb)), (3, .int (ii y95_0)), (5, .int (ii (qu fi))), (2, .int (ii (cdv (F 6) (F 7)))), (0, .ref (am 0)), (1, .int (ii 1))]) hx hb dX12_seek_149 hl (by decide) rfl (fun ls hl => ?_)
                  refine lv_iload hx hb dX12_seek_151 (lv_at hl 0 rfl) ?_
                  refine lv_iload_n hx hb dX12_seek_153 rfl (lv_at hl 8 rfl) ?_
                  have J154 : ∀ (y154_0 : Int) (_ : (gm1 k1 / 10000 = 3 ∧ y154_0 = 2) ∨ (¬ gm1 k1 / 10000 = 3 ∧ y154_0 = 1)) (H : Heap) (locs : List Loc) (_ : va_P G gcl (wM am ty τ (up (up (up (up (up (up (up (up (up ρ 29 gm1) 30 (sc (nm1))) 27 wU) 28 qU) 31 lb) 32 mf) 33 (sc (nb))) 34 qv) 35 qb) ++ cs) H) (_ : va_D A (wM am ty τ (up (up (up (up (up (up (up (up (up ρ 29 gm1) 30 (sc (nm1))) 27 wU) 28 qU) 31 lb) 32 mf) 33 (sc (nb))) 34 qv) 35 qb) ++ cs)) (_ : va_S A s.heap H locs) (ls : Array Slot), lv_has ls 10 [(8, .int (ii 0)), (7, .int (ii z143)), (6, .int (ii k1)), (4, .int (ii mb)), (3, .int (ii y95_0)), (5, .int (ii (qu fi))), (2, .int (ii (cdv (F 6) (F 7)))), (0, .ref (am 0)), (1, .int (ii 1))] → W p l e (rm4 3 0 0 81) s m args below meth c H locs 0 0 Q (F0 m 177 ls [.int (ii y154_0), .int (ii 0)]) := by
                    intro y154_0 hj154 H locs hP hD hS ls hl
                    refine li_icmp_ge (tgt := 361) hx hb ⟨by decide, by decide⟩ ⟨by omega, by omega⟩ dX12_seek_177 (by decide) (fun c177 => ?_) (fun c177 => ?_)
                    · exfalso
                      omega
                    · refine lv_iload hx hb dX12_seek_180 (lv_at hl 1 rfl) ?_
                      refine li_if_lt (tgt := 361) hx hb (rg4 ⟨Int.le_trans (by decide) hzr143.1, Int.le_trans hzr143.2 (by decide)⟩) dX12_seek_182 (by decide) (fun c182 => ?_) (fun c182 => ?_)
                      · refine li_iinc (a := k1) (lv' := [(6, .int (ii (k1 + 1))), (8, .int (ii 0)), (7, .int (ii z143)), (4, .int (ii mb)), (3, .int (ii y95_0)), (5, .int (ii (qu fi))), (2, .int (ii (cdv (F 6) (F 7)))), (0, .ref (am 0)), (1, .int (ii 1))]) hx hb dX12_seek_361 hl (k := 2) rfl (by decide) rfl (fun ls hl => ?_)
                        refine lv_goto (tgt := 126) hx hb dX12_seek_364 (by decide) ?_
                        exact ih (k1 + 1) mb wU qU lb mf nb qv qb (hSt) (hal) (by omega) (by omega) (hSKb) (hlcb) (seenI_s hse cand_n hcd hcn (fun q => absurd (((congrFun (lgl_al hal) _).mpr q).2) (hz143.resolve_left (fun r => by have := r.2; omega)).1)) (hphi) (by omega) H locs hP hD hS ls (lv_sub hl [0, 3, 4, 5, 6, 7, 8] rfl)
                      · obtain ⟨hok, hval⟩ := hz143.resolve_right (fun q => by omega)
                        have hleg : leg F (qu fi) (gm1 k1) := (congrFun (lgl_al hal) _).mp ⟨hcd.1, hok⟩
                        have hnx := nx_in (c := qu fi) hleg.1
                        obtain ⟨hnx0, hnx1⟩ := id hnx
                        have hS2 : wfS (dcw (qu fi) (mvw (gm1 k1 / 1000 % 10) (gm1 k1 % 10) wU)) (dcq (qu fi) (mvq (gm1 k1 / 10000) (gm1 k1 / 100 % 10) (gm1 k1 % 10) qU)) := ⟨dcw_b (nx_wf hcd.1 hSt).1, dcq_b (nx_wf hcd.1 hSt).2⟩
                        refine lv_aload_n hx hb dX12_seek_185 rfl (lv_at hl 7 rfl) ?_
                        refine lv_aload_n hx hb dX12_seek_186 rfl (lv_at hl 7 rfl) ?_
                        refine va_get (D := G) (ci := 11) (v := .ref (am 18)) (C := RX12) (T := TX12) (N := 52) hx hb hts in_X12 hown hK hP 0 (aM_0 _ _ _ _ _) rfl 29 (by decide) (hts _ q1294) (fun _ h9 => h9) rfl dX12_seek_187 ?_
                        refine lv_iload hx hb dX12_seek_190 (lv_at hl 2 rfl) ?_
                        refine li_iald (g := gm1) hx hb hK hP 18 0 (aM_18 _ _ _ _ _) rfl (by omega) (by omega) (by decide) dX12_seek_192 ?_
                        refine lv_iload hx hb dX12_seek_193 (lv_at hl 0 rfl) ?_
                        refine li_iconst hx hb dX12_seek_195 ?_
                        refine li_icmp_ne (tgt := 203) hx hb ⟨by decide, by decide⟩ ⟨by decide, by decide⟩ dX12_seek_196 (by decide) (fun c196 => ?_) (fun c196 => ?_)
                        · refine li_iconst hx hb dX12_seek_203 ?_
                          refine kM (va_runV (As := [.int (ii (gm1 k1)), .int (ii 0)]) (rest := []) ⟨hx, hb, hml, hown, hts⟩ ((m_makeM0 l G am ty τ (up (up (up (up (up (up (up (up (up ρ 29 gm1) 30 (sc (nm1))) 27 wU) 28 qU) 31 lb) 32 mf) 33 (sc (nb))) 34 qv) 35 qb) cs (gm1 k1) _ (show okF F from hF) (show Sim F τ from hSm) (show wfS wU qU from hSt) (show isT (gm1 k1) from hcd.1) (show (gm1 k1) / 1000 % 10 < p2 (F 9 0) from cand_p2 h9a h9b hcd) (show (gm1 k1) / 10000 = 3 → (gm1 k1) / 100 % 10 = 0 from cand_r3 hcd)) H.size) (cwV 2 hts (lw_V q1550 q1552 qs53 q87 q1553) rfl rfl rfl (by decide +kernel) ⟨Nat.le_of_ble_eq_true rfl, Nat.le_of_ble_eq_true rfl⟩) (pvM (r := (RX12, TX12, 52)) hK hP hD hX 0 (aM_0 _ _ _ _ _) rfl) rfl rfl hl.1 rfl (lv_room (Nat.le_of_ble_eq_true rfl)) dX12_seek_204 ⟨Nat.le_of_ble_eq_true rfl, Nat.le_of_ble_eq_true rfl⟩) hD hS hA (fun v ws1 H locs hv hP hD hS => ?_)
                          obtain ⟨rfl, rfl⟩ := hv
                          have hP : va_P G gcl (wM am ty τ (up (up (up (up (up (up (up (up (up ρ 29 gm1) 30 (sc (nm1))) 31 lb) 32 mf) 33 (sc (nb))) 34 qv) 35 qb) 27 (mvw ((gm1 k1) / 1000 % 10) ((gm1 k1) % 10) wU)) 28 ((mvq ((gm1 k1) / 10000) ((gm1 k1) / 100 % 10) ((gm1 k1) % 10) qU))) ++ cs) H := hP
                          have hD : va_D A (wM am ty τ (up (up (up (up (up (up (up (up (up ρ 29 gm1) 30 (sc (nm1))) 31 lb) 32 mf) 33 (sc (nb))) 34 qv) 35 qb) 27 (mvw ((gm1 k1) / 1000 % 10) ((gm1 k1) % 10) wU)) 28 ((mvq ((gm1 k1) / 10000) ((gm1 k1) / 100 % 10) ((gm1 k1) % 10) qU))) ++ cs) := hD
                          refine lv_aload_n hx hb dX12_seek_207 rfl (lv_at hl 7 rfl) ?_
                          refine kR (va_runV (As := []) (rest := []) ⟨hx, hb, hml, hown, hts⟩ (m_closedM l G am ty τ (up (up (up (up (up (up (up (up (up ρ 29 gm1) 30 (sc (nm1))) 31 lb) 32 mf) 33 (sc (nb))) 34 qv) 35 qb) 27 (mvw ((gm1 k1) / 1000 % 10) ((gm1 k1) % 10) wU)) 28 ((mvq ((gm1 k1) / 10000) ((gm1 k1) / 100 % 10) ((gm1 k1) % 10) qU))) cs (show wfS (mvw ((gm1 k1) / 1000 % 10) ((gm1 k1) % 10) wU) ((mvq ((gm1 k1) / 10000) ((gm1 k1) / 100 % 10) ((gm1 k1) % 10) qU)) from nx_wf hcd.1 hSt)) (cwV 0 hts (lw_V q1599 q1601 qs61 q87 q1602) rfl rfl rfl (by decide +kernel) ⟨Nat.le_of_ble_eq_true rfl, Nat.le_of_ble_eq_true rfl⟩) (pvR (r := (RX12, TX12, 52)) hK hP hD hX 0 (aM_0 _ _ _ _ _) rfl) rfl rfl hl.1 rfl (lv_room (Nat.le_of_ble_eq_true rfl)) dX12_seek_208 ⟨Nat.le_of_ble_eq_true rfl, Nat.le_of_ble_eq_true rfl⟩) (fun v hv => ?_)
                          have hv := hv
                          subst hv
                          refine li_topx (z := nx (qu fi) (gm1 k1)) (congrArg ii (nxS_al _ hal)) ?_
                          refine lv_istore (lv' := [(9, .int (ii (nx (qu fi) (gm1 k1)))), (8, .int (ii 0)), (7, .int (ii z143)), (6, .int (ii k1)), (4, .int (ii mb)), (3, .int (ii y95_0)), (5, .int (ii (qu fi))), (2, .int (ii (cdv (F 6) (F 7)))), (0, .ref (am 0)), (1, .int (ii 1))]) hx hb dX12_seek_211 hl (by decide) rfl (fun ls hl => ?_)
                          refine lv_aload_n hx hb dX12_seek_213 rfl (lv_at hl 8 rfl) ?_
                          refine lv_iload hx hb dX12_seek_214 (lv_at hl 6 rfl) ?_
                          refine kM (va_runV (As := [.int (ii (qu fi))]) (rest := []) ⟨hx, hb, hml, hown, hts⟩ ((m_openM l G am ty τ (up (up (up (up (up (up (up (up (up ρ 29 gm1) 30 (sc (nm1))) 31 lb) 32 mf) 33 (sc (nb))) 34 qv) 35 qb) 27 (mvw ((gm1 k1) / 1000 % 10) ((gm1 k1) % 10) wU)) 28 ((mvq ((gm1 k1) / 10000) ((gm1 k1) / 100 % 10) ((gm1 k1) % 10) qU))) cs (qu fi) (show inSt (qu fi) from hic)) H.size) (cwV 1 hts (lw_V q1518 q1520 qs47 q87 q1521) rfl rfl rfl (by decide +kernel) ⟨Nat.le_of_ble_eq_true rfl, Nat.le_of_ble_eq_true rfl⟩) (pvM (r := (RX12, TX12, 52)) hK hP hD hX 0 (aM_0 _ _ _ _ _) rfl) rfl rfl hl.1 rfl (lv_room (Nat.le_of_ble_eq_true rfl)) dX12_seek_216 ⟨Nat.le_of_ble_eq_true rfl, Nat.le_of_ble_eq_true rfl⟩) hD hS hA (fun v ws1 H locs hv hP hD hS => ?_)
                          obtain ⟨rfl, rfl, hal216⟩ := hv
                          have hP : va_P G gcl (wM am ty τ (up (up (up (up (up (up (up (up (up ρ 29 gm1) 30 (sc (nm1))) 31 lb) 32 mf) 33 (sc (nb))) 34 qv) 35 qb) 27 (dcw (qu fi) (mvw ((gm1 k1) / 1000 % 10) ((gm1 k1) % 10) wU))) 28 (dcq (qu fi) ((mvq ((gm1 k1) / 10000) ((gm1 k1) / 100 % 10) ((gm1 k1) % 10) qU)))) ++ cs) H := hP
                          have hD : va_D A (wM am ty τ (up (up (up (up (up (up (up (up (up ρ 29 gm1) 30 (sc (nm1))) 31 lb) 32 mf) 33 (sc (nb))) 34 qv) 35 qb) 27 (dcw (qu fi) (mvw ((gm1 k1) / 1000 % 10) ((gm1 k1) % 10) wU))) 28 (dcq (qu fi) ((mvq ((gm1 k1) / 10000) ((gm1 k1) / 100 % 10) ((gm1 k1) % 10) qU)))) ++ cs) := hD
                          have hal216 : alike (dcw (qu fi) (mvw ((gm1 k1) / 1000 % 10) ((gm1 k1) % 10) wU)) (dcq (qu fi) ((mvq ((gm1 k1) / 10000) ((gm1 k1) / 100 % 10) ((gm1 k1) % 10) qU))) (stW (qu fi)) (stQ (qu fi)) := hal216
                          have hrc := (hSKb).toMet.rg hic
                          have hrt := (hSKb).toMet.rg hnx
                          have hn1 := (hSKb).n1
                          have hn2 := (hSKb).toMet.n2
                          have hq := (hSKb).qb _ hnx
                          have hm0 := (hSKb).m0
                          have hmb : ¬ qb (nx (qu fi) (gm1 k1)) = 1 → mb < 4500 := fun z => (hSKb).room hnx z
                          refine lv_aload_n hx hb dX12_seek_219 rfl (lv_at hl 8 rfl) ?_
                          refine va_get (D := G) (ci := 11) (v := .ref (am 19)) (C := RX12) (T := TX12) (N := 52) hx hb hts in_X12 hown hK hP 0 (aM_0 _ _ _ _ _) rfl 31 (by decide) (hts _ q1296) (fun _ h9 => h9) rfl dX12_seek_220 ?_
                          refine lv_iload hx hb dX12_seek_223 (lv_at hl 6 rfl) ?_
                          refine li_iald (g := lb) hx hb hK hP 19 0 (aM_19 _ _ _ _ _) rfl (by omega) (by omega) (by decide) dX12_seek_225 ?_
                          refine lv_iload hx hb dX12_seek_226 (lv_at hl 2 rfl) ?_
                          refine li_add hx hb dX12_seek_228 ?_
                          refine lv_aload_n hx hb dX12_seek_229 rfl (lv_at hl 8 rfl) ?_
                          refine va_get (D := G) (ci := 11) (v := .ref (am 19)) (C := RX12) (T := TX12) (N := 52) hx hb hts in_X12 hown hK hP 0 (aM_0 _ _ _ _ _) rfl 31 (by decide) (hts _ q1296) (fun _ h9 => h9) rfl dX12_seek_230 ?_
                          refine lv_iload hx hb dX12_seek_233 (lv_at hl 0 rfl) ?_
                          refine li_iald (g := lb) hx hb hK hP 19 0 (aM_19 _ _ _ _ _) rfl (by omega) (by omega) (by decide) dX12_seek_235 ?_
                          have J236 : ∀ (x236_4 : Int) (wg236_31 : Int → Int) (wg236_32 : Int → Int) (w236_33 : Int) (wg236_34 : Int → Int) (wg236_35 : Int → Int) (_ : relO (EC F) (cdv (F 6) (F 7)) lb mf nb qb qv y95_0 mb (qu fi) (nx (qu fi) (gm1 k1)) z143 wg236_31 wg236_32 w236_33 wg236_35 wg236_34 x236_4) (H : Heap) (locs : List Loc) (_ : va_P G gcl (wM am ty τ (up (up (up (up (up (up (up (up (up ρ 29 gm1) 30 (sc (nm1))) 31 wg236_31) 32 wg236_32) 33 (sc (w236_33))) 34 wg236_34) 35 wg236_35) 27 (dcw (qu fi) (mvw ((gm1 k1) / 1000 % 10) ((gm1 k1) % 10) wU))) 28 (dcq (qu fi) ((mvq ((gm1 k1) / 10000) ((gm1 k1) / 100 % 10) ((gm1 k1) % 10) qU)))) ++ cs) H) (_ : va_D A (wM am ty τ (up (up (up (up (up (up (up (up (up ρ 29 gm1) 30 (sc (nm1))) 31 wg236_31) 32 wg236_32) 33 (sc (w236_33))) 34 wg236_34) 35 wg236_35) 27 (dcw (qu fi) (mvw ((gm1 k1) / 1000 % 10) ((gm1 k1) % 10) wU))) 28 (dcq (qu fi) ((mvq ((gm1 k1) / 10000) ((gm1 k1) / 100 % 10) ((gm1 k1) % 10) qU)))) ++ cs)) (_ : va_S A s.heap H locs) (ls : Array Slot), lv_has ls 10 [(9, .int (ii (nx (qu fi) (gm1 k1)))), (8, .int (ii 0)), (7, .int (ii z143)), (6, .int (ii k1)), (4, .int (ii x236_4)), (3, .int (ii y95_0)), (5, .int (ii (qu fi))), (2, .int (ii (cdv (F 6) (F 7)))), (0, .ref (am 0)), (1, .int (ii 1))] → W p l e (rm4 3 0 0 81) s m args below meth c H locs 0 0 Q (F0 m 355 ls []) := by
                            intro x236_4 wg236_31 wg236_32 w236_33 wg236_34 wg236_35 hj236 H locs hP hD hS ls hl
                            refine li_iinc (a := 0) (lv' := [(8, .int (ii 1)), (9, .int (ii (nx (qu fi) (gm1 k1)))), (7, .int (ii z143)), (6, .int (ii k1)), (4, .int (ii x236_4)), (3, .int (ii y95_0)), (5, .int (ii (qu fi))), (2, .int (ii (cdv (F 6) (F 7)))), (0, .ref (am 0)), (1, .int (ii 1))]) hx hb dX12_seek_355 hl (k := 1) rfl (by decide) rfl (fun ls hl => ?_)
                            refine lv_goto (tgt := 151) hx hb dX12_seek_358 (by decide) ?_
                            refine lv_iload hx hb dX12_seek_151 (lv_at hl 0 rfl) ?_
                            refine lv_iload_n hx hb dX12_seek_153 rfl (lv_at hl 9 rfl) ?_
                            have J154_1 : ∀ (y154_1_0 : Int) (_ : (gm1 k1 / 10000 = 3 ∧ y154_1_0 = 2) ∨ (¬ gm1 k1 / 10000 = 3 ∧ y154_1_0 = 1)) (H : Heap) (locs : List Loc) (_ : va_P G gcl (wM am ty τ (up (up (up (up (up (up (up (up (up ρ 29 gm1) 30 (sc (nm1))) 31 wg236_31) 32 wg236_32) 33 (sc (w236_33))) 34 wg236_34) 35 wg236_35) 27 (dcw (qu fi) (mvw ((gm1 k1) / 1000 % 10) ((gm1 k1) % 10) wU))) 28 (dcq (qu fi) ((mvq ((gm1 k1) / 10000) ((gm1 k1) / 100 % 10) ((gm1 k1) % 10) qU)))) ++ cs) H) (_ : va_D A (wM am ty τ (up (up (up (up (up (up (up (up (up ρ 29 gm1) 30 (sc (nm1))) 31 wg236_31) 32 wg236_32) 33 (sc (w236_33))) 34 wg236_34) 35 wg236_35) 27 (dcw (qu fi) (mvw ((gm1 k1) / 1000 % 10) ((gm1 k1) % 10) wU))) 28 (dcq (qu fi) ((mvq ((gm1 k1) / 10000) ((gm1 k1) / 100 % 10) ((gm1 k1) % 10) qU)))) ++ cs)) (_ : va_S A s.heap H locs) (ls : Array Slot), lv_has ls 10 [(8, .int (ii 1)), (9, .int (ii (nx (qu fi) (gm1 k1)))), (7, .int (ii z143)), (6, .int (ii k1)), (4, .int (ii x236_4)), (3, .int (ii y95_0)), (5, .int (ii (qu fi))), (2, .int (ii (cdv (F 6) (F 7)))), (0, .ref (am 0)), (1, .int (ii 1))] → W p l e (rm4 3 0 0 81) s m args below meth c H locs 0 0 Q (F0 m 177 ls [.int (ii y154_1_0), .int (ii 1)]) := by
                              intro y154_1_0 hj154_1 H locs hP hD hS ls hl
                              refine li_icmp_ge (tgt := 361) hx hb ⟨by decide, by decide⟩ ⟨by omega, by omega⟩ dX12_seek_177 (by decide) (fun c177 => ?_) (fun c177 => ?_)
                              · refine li_iinc (a := k1) (lv' := [(6, .int (ii (k1 + 1))), (8, .int (ii 1)), (9, .int (ii (nx (qu fi) (gm1 k1)))), (7, .int (ii z143)), (4, .int (ii x236_4)), (3, .int (ii y95_0)), (5, .int (ii (qu fi))), (2, .int (ii (cdv (F 6) (F 7)))), (0, .ref (am 0)), (1, .int (ii 1))]) hx hb dX12_seek_361 hl (k := 3) rfl (by decide) rfl (fun ls hl => ?_)
                                refine lv_goto (tgt := 126) hx hb dX12_seek_364 (by decide) ?_
                                exact ih (k1 + 1) x236_4 (dcw (qu fi) (mvw ((gm1 k1) / 1000 % 10) ((gm1 k1) % 10) wU)) (dcq (qu fi) ((mvq ((gm1 k1) / 10000) ((gm1 k1) / 100 % 10) ((gm1 k1) % 10) qU))) wg236_31 wg236_32 w236_33 wg236_34 wg236_35 (hS2) (alike_dc _ _ _) (by omega) (by omega) (hj236.1) (by rw [hj236.2.1]; exact hlcb) (seenI_s (seenI_w hse (fun m q => QC_w hj236.2.1 hj236.2.2.1 q)) cand_n hcd hcn (fun _ => ⟨by rw [hj236.2.1, ← hval]; exact hj236.2.2.2.1, fun q => by omega⟩)) (by have := hj236.2.2.2.2.1; omega) (by omega) H locs hP hD hS ls (lv_sub hl [0, 4, 5, 6, 7, 8, 9] rfl)
                              · refine lv_iload hx hb dX12_seek_180 (lv_at hl 2 rfl) ?_
                                refine li_if_lt (tgt := 361) hx hb (rg4 ⟨Int.le_trans (by decide) hzr143.1, Int.le_trans hzr143.2 (by decide)⟩) dX12_seek_182 (by decide) (fun c182 => ?_) (fun c182 => ?_)
                                · exfalso
                                  omega
                                · refine lv_aload_n hx hb dX12_seek_185 rfl (lv_at hl 8 rfl) ?_
                                  refine lv_aload_n hx hb dX12_seek_186 rfl (lv_at hl 8 rfl) ?_
                                  refine va_get (D := G) (ci := 11) (v := .ref (am 18)) (C := RX12) (T := TX12) (N := 52) hx hb hts in_X12 hown hK hP 0 (aM_0 _ _ _ _ _) rfl 29 (by decide) (hts _ q1294) (fun _ h9 => h9) rfl dX12_seek_187 ?_
                                  refine lv_iload hx hb dX12_seek_190 (lv_at hl 3 rfl) ?_
                                  refine li_iald (g := gm1) hx hb hK hP 18 0 (aM_18 _ _ _ _ _) rfl (by omega) (by omega) (by decide) dX12_seek_192 ?_
                                  refine lv_iload hx hb dX12_seek_193 (lv_at hl 0 rfl) ?_
                                  refine li_iconst hx hb dX12_seek_195 ?_
                                  refine li_icmp_ne (tgt := 203) hx hb ⟨by decide, by decide⟩ ⟨by decide, by decide⟩ dX12_seek_196 (by decide) (fun c196 => ?_) (fun c196 => ?_)
                                  · exact absurd c196 (by decide)
                                  · refine li_iconst hx hb dX12_seek_199 ?_
                                    refine lv_goto (tgt := 204) hx hb dX12_seek_200 (by decide) ?_
                                    have hk3 : gm1 k1 / 10000 = 3 := by omega
                                    refine kM (va_runV (As := [.int (ii (gm1 k1)), .int (ii 1)]) (rest := []) ⟨hx, hb, hml, hown, hts⟩ ((m_makeM1 l G am ty τ (up (up (up (up (up (up (up (up (up ρ 29 gm1) 30 (sc (nm1))) 31 wg236_31) 32 wg236_32) 33 (sc (w236_33))) 34 wg236_34) 35 wg236_35) 27 (dcw (qu fi) (mvw ((gm1 k1) / 1000 % 10) ((gm1 k1) % 10) wU))) 28 (dcq (qu fi) ((mvq ((gm1 k1) / 10000) ((gm1 k1) / 100 % 10) ((gm1 k1) % 10) qU)))) cs (gm1 k1) _ (show okF F from hF) (show Sim F τ from hSm) (show wfS (dcw (qu fi) (mvw ((gm1 k1) / 1000 % 10) ((gm1 k1) % 10) wU)) (dcq (qu fi) ((mvq ((gm1 k1) / 10000) ((gm1 k1) / 100 % 10) ((gm1 k1) % 10) qU))) from hS2) (show isT (gm1 k1) from hcd.1) (show (gm1 k1) / 1000 % 10 < p2 (F 9 0) from cand_p2 h9a h9b hcd) (show (gm1 k1) / 10000 = 3 → (gm1 k1) / 100 % 10 = 0 from cand_r3 hcd) (show (gm1 k1) / 10000 = 3 from hk3)) H.size) (cwV 2 hts (lw_V q1550 q1552 qs53 q87 q1553) rfl rfl rfl (by decide +kernel) ⟨Nat.le_of_ble_eq_true rfl, Nat.le_of_ble_eq_true rfl⟩) (pvM (r := (RX12, TX12, 52)) hK hP hD hX 0 (aM_0 _ _ _ _ _) rfl) rfl rfl hl.1 rfl (lv_room (Nat.le_of_ble_eq_true rfl)) dX12_seek_204 ⟨Nat.le_of_ble_eq_true rfl, Nat.le_of_ble_eq_true rfl⟩) hD hS hA (fun v ws1 H locs hv hP hD hS => ?_)
                                    obtain ⟨rfl, rfl⟩ := hv
                                    have hP : va_P G gcl (wM am ty τ (up (up (up (up (up (up (up (up (up ρ 29 gm1) 30 (sc (nm1))) 31 wg236_31) 32 wg236_32) 33 (sc (w236_33))) 34 wg236_34) 35 wg236_35) 27 (mvw ((gm1 k1) / 1000 % 10) ((gm1 k1) % 10) (dcw (qu fi) (mvw ((gm1 k1) / 1000 % 10) ((gm1 k1) % 10) wU)))) 28 ((ug (ug (dcq (qu fi) ((mvq ((gm1 k1) / 10000) ((gm1 k1) / 100 % 10) ((gm1 k1) % 10) qU))) 0 5) 1 5))) ++ cs) H := hP
                                    have hD : va_D A (wM am ty τ (up (up (up (up (up (up (up (up (up ρ 29 gm1) 30 (sc (nm1))) 31 wg236_31) 32 wg236_32) 33 (sc (w236_33))) 34 wg236_34) 35 wg236_35) 27 (mvw ((gm1 k1) / 1000 % 10) ((gm1 k1) % 10) (dcw (qu fi) (mvw ((gm1 k1) / 1000 % 10) ((gm1 k1) % 10) wU)))) 28 ((ug (ug (dcq (qu fi) ((mvq ((gm1 k1) / 10000) ((gm1 k1) / 100 % 10) ((gm1 k1) % 10) qU))) 0 5) 1 5))) ++ cs) := hD
                                    refine lv_aload_n hx hb dX12_seek_207 rfl (lv_at hl 8 rfl) ?_
                                    refine kR (va_runV (As := []) (rest := []) ⟨hx, hb, hml, hown, hts⟩ (m_closedM l G am ty τ (up (up (up (up (up (up (up (up (up ρ 29 gm1) 30 (sc (nm1))) 31 wg236_31) 32 wg236_32) 33 (sc (w236_33))) 34 wg236_34) 35 wg236_35) 27 (mvw ((gm1 k1) / 1000 % 10) ((gm1 k1) % 10) (dcw (qu fi) (mvw ((gm1 k1) / 1000 % 10) ((gm1 k1) % 10) wU)))) 28 ((ug (ug (dcq (qu fi) ((mvq ((gm1 k1) / 10000) ((gm1 k1) / 100 % 10) ((gm1 k1) % 10) qU))) 0 5) 1 5))) cs (show wfS (mvw ((gm1 k1) / 1000 % 10) ((gm1 k1) % 10) (dcw (qu fi) (mvw ((gm1 k1) / 1000 % 10) ((gm1 k1) % 10) wU))) ((ug (ug (dcq (qu fi) ((mvq ((gm1 k1) / 10000) ((gm1 k1) / 100 % 10) ((gm1 k1) % 10) qU))) 0 5) 1 5)) from ⟨mvw_b (by omega) hS2.1, ug_b (by decide) (ug_b (by decide) hS2.2)⟩)) (cwV 0 hts (lw_V q1599 q1601 qs61 q87 q1602) rfl rfl rfl (by decide +kernel) ⟨Nat.le_of_ble_eq_true rfl, Nat.le_of_ble_eq_true rfl⟩) (pvR (r := (RX12, TX12, 52)) hK hP hD hX 0 (aM_0 _ _ _ _ _) rfl) rfl rfl hl.1 rfl (lv_room (Nat.le_of_ble_eq_true rfl)) dX12_seek_208 ⟨Nat.le_of_ble_eq_true rfl, Nat.le_of_ble_eq_true rfl⟩) (fun v hv => ?_)
                                    have hv := hv
                                    subst hv
                                    refine li_topx (z := nxc (qu fi) (gm1 k1)) (congrArg ii (clo_c _ (alike_dc _ _ _))) ?_
                                    refine lv_istore (lv' := [(9, .int (ii (nxc (qu fi) (gm1 k1)))), (8, .int (ii 1)), (7, .int (ii z143)), (6, .int (ii k1)), (4, .int (ii x236_4)), (3, .int (ii y95_0)), (5, .int (ii (qu fi))), (2, .int (ii (cdv (F 6) (F 7)))), (0, .ref (am 0)), (1, .int (ii 1))]) hx hb dX12_seek_211 hl (by decide) rfl (fun ls hl => ?_)
                                    have hS3 : wfS (dcw (qu fi) (mvw ((gm1 k1) / 1000 % 10) ((gm1 k1) % 10) (dcw (qu fi) (mvw ((gm1 k1) / 1000 % 10) ((gm1 k1) % 10) wU)))) (dcq (qu fi) ((ug (ug (dcq (qu fi) ((mvq ((gm1 k1) / 10000) ((gm1 k1) / 100 % 10) ((gm1 k1) % 10) qU))) 0 5) 1 5))) := ⟨dcw_b (mvw_b (by omega) hS2.1), dcq_b (ug_b (by decide) (ug_b (by decide) hS2.2))⟩
                                    refine lv_aload_n hx hb dX12_seek_213 rfl (lv_at hl 8 rfl) ?_
                                    refine lv_iload hx hb dX12_seek_214 (lv_at hl 6 rfl) ?_
                                    refine kM (va_runV (As := [.int (ii (qu fi))]) (rest := []) ⟨hx, hb, hml, hown, hts⟩ ((m_openM l G am ty τ (up (up (up (up (up (up (up (up (up ρ 29 gm1) 30 (sc (nm1))) 31 wg236_31) 32 wg236_32) 33 (sc (w236_33))) 34 wg236_34) 35 wg236_35) 27 (mvw ((gm1 k1) / 1000 % 10) ((gm1 k1) % 10) (dcw (qu fi) (mvw ((gm1 k1) / 1000 % 10) ((gm1 k1) % 10) wU)))) 28 ((ug (ug (dcq (qu fi) ((mvq ((gm1 k1) / 10000) ((gm1 k1) / 100 % 10) ((gm1 k1) % 10) qU))) 0 5) 1 5))) cs (qu fi) (show inSt (qu fi) from hic)) H.size) (cwV 1 hts (lw_V q1518 q1520 qs47 q87 q1521) rfl rfl rfl (by decide +kernel) ⟨Nat.le_of_ble_eq_true rfl, Nat.le_of_ble_eq_true rfl⟩) (pvM (r := (RX12, TX12, 52)) hK hP hD hX 0 (aM_0 _ _ _ _ _) rfl) rfl rfl hl.1 rfl (lv_room (Nat.le_of_ble_eq_true rfl)) dX12_seek_216 ⟨Nat.le_of_ble_eq_true rfl, Nat.le_of_ble_eq_true rfl⟩) hD hS hA (fun v ws1 H locs hv hP hD hS => ?_)
                                    obtain ⟨rfl, rfl, hal216_1⟩ := hv
                                    have hP : va_P G gcl (wM am ty τ (up (up (up (up (up (up (up (up (up ρ 29 gm1) 30 (sc (nm1))) 31 wg236_31) 32 wg236_32) 33 (sc (w236_33))) 34 wg236_34) 35 wg236_35) 27 (dcw (qu fi) (mvw ((gm1 k1) / 1000 % 10) ((gm1 k1) % 10) (dcw (qu fi) (mvw ((gm1 k1) / 1000 % 10) ((gm1 k1) % 10) wU))))) 28 (dcq (qu fi) ((ug (ug (dcq (qu fi) ((mvq ((gm1 k1) / 10000) ((gm1 k1) / 100 % 10) ((gm1 k1) % 10) qU))) 0 5) 1 5)))) ++ cs) H := hP
                                    have hD : va_D A (wM am ty τ (up (up (up (up (up (up (up (up (up ρ 29 gm1) 30 (sc (nm1))) 31 wg236_31) 32 wg236_32) 33 (sc (w236_33))) 34 wg236_34) 35 wg236_35) 27 (dcw (qu fi) (mvw ((gm1 k1) / 1000 % 10) ((gm1 k1) % 10) (dcw (qu fi) (mvw ((gm1 k1) / 1000 % 10) ((gm1 k1) % 10) wU))))) 28 (dcq (qu fi) ((ug (ug (dcq (qu fi) ((mvq ((gm1 k1) / 10000) ((gm1 k1) / 100 % 10) ((gm1 k1) % 10) qU))) 0 5) 1 5)))) ++ cs) := hD
                                    have hal216_1 : alike (dcw (qu fi) (mvw ((gm1 k1) / 1000 % 10) ((gm1 k1) % 10) (dcw (qu fi) (mvw ((gm1 k1) / 1000 % 10) ((gm1 k1) % 10) wU)))) (dcq (qu fi) ((ug (ug (dcq (qu fi) ((mvq ((gm1 k1) / 10000) ((gm1 k1) / 100 % 10) ((gm1 k1) % 10) qU))) 0 5) 1 5))) (stW (qu fi)) (stQ (qu fi)) := hal216_1
                                    have hlc2 : wg236_31 (qu fi) ≠ FARc := by rw [hj236.2.1]; exact hlcb
                                    have hny := nxc_in (c := qu fi) hleg.1
                                    obtain ⟨hny0, hny1⟩ := id hny
                                    have hrc2 := (hj236.1).toMet.rg hic
                                    have hrt2 := (hj236.1).toMet.rg hny
                                    have hn12 := (hj236.1).n1
                                    have hn22 := (hj236.1).toMet.n2
                                    have hq2 := (hj236.1).qb _ hny
                                    have hm02 := (hj236.1).m0
                                    have hmb2 : ¬ wg236_35 (nxc (qu fi) (gm1 k1)) = 1 → x236_4 < 4500 := fun z => (hj236.1).room hny z
                                    refine lv_aload_n hx hb dX12_seek_219 rfl (lv_at hl 8 rfl) ?_
                                    refine va_get (D := G) (ci := 11) (v := .ref (am 19)) (C := RX12) (T := TX12) (N := 52) hx hb hts in_X12 hown hK hP 0 (aM_0 _ _ _ _ _) rfl 31 (by decide) (hts _ q1296) (fun _ h9 => h9) rfl dX12_seek_220 ?_
                                    refine lv_iload hx hb dX12_seek_223 (lv_at hl 6 rfl) ?_
                                    refine li_iald (g := wg236_31) hx hb hK hP 19 0 (aM_19 _ _ _ _ _) rfl (by omega) (by omega) (by decide) dX12_seek_225 ?_
                                    refine lv_iload hx hb dX12_seek_226 (lv_at hl 2 rfl) ?_
                                    refine li_add hx hb dX12_seek_228 ?_
                                    refine lv_aload_n hx hb dX12_seek_229 rfl (lv_at hl 8 rfl) ?_
                                    refine va_get (D := G) (ci := 11) (v := .ref (am 19)) (C := RX12) (T := TX12) (N := 52) hx hb hts in_X12 hown hK hP 0 (aM_0 _ _ _ _ _) rfl 31 (by decide) (hts _ q1296) (fun _ h9 => h9) rfl dX12_seek_230 ?_
                                    refine lv_iload hx hb dX12_seek_233 (lv_at hl 0 rfl) ?_
                                    refine li_iald (g := wg236_31) hx hb hK hP 19 0 (aM_19 _ _ _ _ _) rfl (by omega) (by omega) (by decide) dX12_seek_235 ?_
                                    have J236_1 : ∀ (x236_1_4 : Int) (wg236_1_31 : Int → Int) (wg236_1_32 : Int → Int) (w236_1_33 : Int) (wg236_1_34 : Int → Int) (wg236_1_35 : Int → Int) (_ : relO (EC F) (cdv (F 6) (F 7)) wg236_31 wg236_32 w236_33 wg236_35 wg236_34 y95_0 x236_4 (qu fi) (nxc (qu fi) (gm1 k1)) z143 wg236_1_31 wg236_1_32 w236_1_33 wg236_1_35 wg236_1_34 x236_1_4) (H : Heap) (locs : List Loc) (_ : va_P G gcl (wM am ty τ (up (up (up (up (up (up (up (up (up ρ 29 gm1) 30 (sc (nm1))) 31 wg236_1_31) 32 wg236_1_32) 33 (sc (w236_1_33))) 34 wg236_1_34) 35 wg236_1_35) 27 (dcw (qu fi) (mvw ((gm1 k1) / 1000 % 10) ((gm1 k1) % 10) (dcw (qu fi) (mvw ((gm1 k1) / 1000 % 10) ((gm1 k1) % 10) wU))))) 28 (dcq (qu fi) ((ug (ug (dcq (qu fi) ((mvq ((gm1 k1) / 10000) ((gm1 k1) / 100 % 10) ((gm1 k1) % 10) qU))) 0 5) 1 5)))) ++ cs) H) (_ : va_D A (wM am ty τ (up (up (up (up (up (up (up (up (up ρ 29 gm1) 30 (sc (nm1))) 31 wg236_1_31) 32 wg236_1_32) 33 (sc (w236_1_33))) 34 wg236_1_34) 35 wg236_1_35) 27 (dcw (qu fi) (mvw ((gm1 k1) / 1000 % 10) ((gm1 k1) % 10) (dcw (qu fi) (mvw ((gm1 k1) / 1000 % 10) ((gm1 k1) % 10) wU))))) 28 (dcq (qu fi) ((ug (ug (dcq (qu fi) ((mvq ((gm1 k1) / 10000) ((gm1 k1) / 100 % 10) ((gm1 k1) % 10) qU))) 0 5) 1 5)))) ++ cs)) (_ : va_S A s.heap H locs) (ls : Array Slot), lv_has ls 10 [(9, .int (ii (nxc (qu fi) (gm1 k1)))), (8, .int (ii 1)), (7, .int (ii z143)), (6, .int (ii k1)), (4, .int (ii x236_1_4)), (3, .int (ii y95_0)), (5, .int (ii (qu fi))), (2, .int (ii (cdv (F 6) (F 7)))), (0, .ref (am 0)), (1, .int (ii 1))] → W p l e (rm4 3 0 0 81) s m args below meth c H locs 0 0 Q (F0 m 355 ls []) := by
                                      intro x236_1_4 wg236_1_31 wg236_1_32 w236_1_33 wg236_1_34 wg236_1_35 hj236_1 H locs hP hD hS ls hl
                                      refine li_iinc (a := 1) (lv' := [(8, .int (ii 2)), (9, .int (ii (nxc (qu fi) (gm1 k1)))), (7, .int (ii z143)), (6, .int (ii k1)), (4, .int (ii x236_1_4)), (3, .int (ii y95_0)), (5, .int (ii (qu fi))), (2, .int (ii (cdv (F 6) (F 7)))), (0, .ref (am 0)), (1, .int (ii 1))]) hx hb dX12_seek_355 hl (k := 1) rfl (by decide) rfl (fun ls hl => ?_)
                                      refine lv_goto (tgt := 151) hx hb dX12_seek_358 (by decide) ?_
                                      refine lv_iload hx hb dX12_seek_151 (lv_at hl 0 rfl) ?_
                                      refine lv_iload_n hx hb dX12_seek_153 rfl (lv_at hl 9 rfl) ?_
                                      have J154_2 : ∀ (y154_2_0 : Int) (_ : (gm1 k1 / 10000 = 3 ∧ y154_2_0 = 2) ∨ (¬ gm1 k1 / 10000 = 3 ∧ y154_2_0 = 1)) (H : Heap) (locs : List Loc) (_ : va_P G gcl (wM am ty τ (up (up (up (up (up (up (up (up (up ρ 29 gm1) 30 (sc (nm1))) 31 wg236_1_31) 32 wg236_1_32) 33 (sc (w236_1_33))) 34 wg236_1_34) 35 wg236_1_35) 27 (dcw (qu fi) (mvw ((gm1 k1) / 1000 % 10) ((gm1 k1) % 10) (dcw (qu fi) (mvw ((gm1 k1) / 1000 % 10) ((gm1 k1) % 10) wU))))) 28 (dcq (qu fi) ((ug (ug (dcq (qu fi) ((mvq ((gm1 k1) / 10000) ((gm1 k1) / 100 % 10) ((gm1 k1) % 10) qU))) 0 5) 1 5)))) ++ cs) H) (_ : va_D A (wM am ty τ (up (up (up (up (up (up (up (up (up ρ 29 gm1) 30 (sc (nm1))) 31 wg236_1_31) 32 wg236_1_32) 33 (sc (w236_1_33))) 34 wg236_1_34) 35 wg236_1_35) 27 (dcw (qu fi) (mvw ((gm1 k1) / 1000 % 10) ((gm1 k1) % 10) (dcw (qu fi) (mvw ((gm1 k1) / 1000 % 10) ((gm1 k1) % 10) wU))))) 28 (dcq (qu fi) ((ug (ug (dcq (qu fi) ((mvq ((gm1 k1) / 10000) ((gm1 k1) / 100 % 10) ((gm1 k1) % 10) qU))) 0 5) 1 5)))) ++ cs)) (_ : va_S A s.heap H locs) (ls : Array Slot), lv_has ls 10 [(8, .int (ii 2)), (9, .int (ii (nxc (qu fi) (gm1 k1)))), (7, .int (ii z143)), (6, .int (ii k1)), (4, .int (ii x236_1_4)), (3, .int (ii y95_0)), (5, .int (ii (qu fi))), (2, .int (ii (cdv (F 6) (F 7)))), (0, .ref (am 0)), (1, .int (ii 1))] → W p l e (rm4 3 0 0 81) s m args below meth c H locs 0 0 Q (F0 m 177 ls [.int (ii y154_2_0), .int (ii 2)]) := by
                                        intro y154_2_0 hj154_2 H locs hP hD hS ls hl
                                        refine li_icmp_ge (tgt := 361) hx hb ⟨by decide, by decide⟩ ⟨by omega, by omega⟩ dX12_seek_177 (by decide) (fun c177 => ?_) (fun c177 => ?_)
                                        · refine li_iinc (a := k1) (lv' := [(6, .int (ii (k1 + 1))), (8, .int (ii 2)), (9, .int (ii (nxc (qu fi) (gm1 k1)))), (7, .int (ii z143)), (4, .int (ii x236_1_4)), (3, .int (ii y95_0)), (5, .int (ii (qu fi))), (2, .int (ii (cdv (F 6) (F 7)))), (0, .ref (am 0)), (1, .int (ii 1))]) hx hb dX12_seek_361 hl (k := 3) rfl (by decide) rfl (fun ls hl => ?_)
                                          refine lv_goto (tgt := 126) hx hb dX12_seek_364 (by decide) ?_
                                          exact ih (k1 + 1) x236_1_4 (dcw (qu fi) (mvw ((gm1 k1) / 1000 % 10) ((gm1 k1) % 10) (dcw (qu fi) (mvw ((gm1 k1) / 1000 % 10) ((gm1 k1) % 10) wU)))) (dcq (qu fi) ((ug (ug (dcq (qu fi) ((mvq ((gm1 k1) / 10000) ((gm1 k1) / 100 % 10) ((gm1 k1) % 10) qU))) 0 5) 1 5))) wg236_1_31 wg236_1_32 w236_1_33 wg236_1_34 wg236_1_35 (hS3) (alike_dc _ _ _) (by omega) (by omega) (hj236_1.1) (by rw [hj236_1.2.1]; exact hlc2) (seenI_s (seenI_w (seenI_w hse (fun m q => QC_w hj236.2.1 hj236.2.2.1 q)) (fun m q => QC_w hj236_1.2.1 hj236_1.2.2.1 q)) cand_n hcd hcn (fun _ => ⟨by rw [hj236_1.2.1, hj236.2.1, ← hval]; exact Int.le_trans (hj236_1.2.2.1 _) hj236.2.2.2.1, fun _ => by rw [hj236_1.2.1, ← hval]; exact hj236_1.2.2.2.1⟩)) (by have := hj236.2.2.2.2.1; have := hj236_1.2.2.2.2.1; omega) (by omega) H locs hP hD hS ls (lv_sub hl [0, 4, 5, 6, 7, 8, 9] rfl)
                                        · exfalso
                                          omega
                                      refine li_if_eq (tgt := 176) hx hb ⟨by decide, by decide⟩ dX12_seek_154 (by decide) (fun c154 => ?_) (fun c154 => ?_)
                                      · exact absurd c154 (by decide)
                                      · refine lv_aload_n hx hb dX12_seek_157 rfl (lv_at hl 8 rfl) ?_
                                        refine va_get (D := G) (ci := 11) (v := .ref (am 18)) (C := RX12) (T := TX12) (N := 52) hx hb hts in_X12 hown hK hP 0 (aM_0 _ _ _ _ _) rfl 29 (by decide) (hts _ q1294) (fun _ h9 => h9) rfl dX12_seek_158 ?_
                                        refine lv_iload hx hb dX12_seek_161 (lv_at hl 3 rfl) ?_
                                        refine li_iald (g := gm1) hx hb hK hP 18 0 (aM_18 _ _ _ _ _) rfl (by omega) (by omega) (by decide) dX12_seek_163 ?_
                                        refine li_sipush hx hb dX12_seek_164 (by decide) ?_
                                        refine li_div hx hb (by omega) (by omega) (by omega) (by omega) dX12_seek_167 ?_
                                        refine li_iconst hx hb dX12_seek_168 ?_
                                        refine li_icmp_ne (tgt := 176) hx hb ⟨by omega, by omega⟩ ⟨by decide, by decide⟩ dX12_seek_169 (by decide) (fun c169 => ?_) (fun c169 => ?_)
                                        · refine li_iconst hx hb dX12_seek_176 ?_
                                          exact J154_2 1 (by omega) H locs hP hD hS ls (lv_sub hl [0, 1, 2, 3, 4, 5, 6, 7, 8, 9] rfl)
                                        · refine li_iconst hx hb dX12_seek_172 ?_
                                          refine lv_goto (tgt := 177) hx hb dX12_seek_173 (by decide) ?_
                                          exact J154_2 2 (by omega) H locs hP hD hS ls (lv_sub hl [0, 1, 2, 3, 4, 5, 6, 7, 8, 9] rfl)
                                    refine li_icmp_ge (tgt := 355) hx hb ⟨by omega, by omega⟩ ⟨by omega, by omega⟩ dX12_seek_236 (by decide) (fun c236 => ?_) (fun c236 => ?_)
                                    · exact J236_1 x236_4 wg236_31 wg236_32 w236_33 wg236_34 wg236_35 (relO_no (hj236.1) (by omega)) H locs hP hD hS ls (lv_sub hl [0, 1, 2, 3, 4, 5, 6, 7, 8, 9] rfl)
                                    · refine lv_aload_n hx hb dX12_seek_239 rfl (lv_at hl 8 rfl) ?_
                                      refine va_get (D := G) (ci := 11) (v := .ref (am 20)) (C := RX12) (T := TX12) (N := 52) hx hb hts in_X12 hown hK hP 0 (aM_0 _ _ _ _ _) rfl 32 (by decide) (hts _ q1297) (fun _ h9 => h9) rfl dX12_seek_240 ?_
                                      refine lv_aload_n hx hb dX12_seek_243 rfl (lv_at hl 8 rfl) ?_
                                      refine va_get (D := G) (ci := 11) (v := .int (ii w236_33)) (C := RX12) (T := TX12) (N := 52) hx hb hts in_X12 hown hK hP 0 (aM_0 _ _ _ _ _) rfl 33 (by decide) (hts _ q1298) (fun _ h9 => h9) rfl dX12_seek_244 ?_
                                      refine lv_aload_n hx hb dX12_seek_247 rfl (lv_at hl 8 rfl) ?_
                                      refine va_get (D := G) (ci := 11) (v := .ref (am 19)) (C := RX12) (T := TX12) (N := 52) hx hb hts in_X12 hown hK hP 0 (aM_0 _ _ _ _ _) rfl 31 (by decide) (hts _ q1296) (fun _ h9 => h9) rfl dX12_seek_248 ?_
                                      refine lv_iload hx hb dX12_seek_251 (lv_at hl 0 rfl) ?_
                                      refine li_iald (g := wg236_31) hx hb hK hP 19 0 (aM_19 _ _ _ _ _) rfl (by omega) (by omega) (by decide) dX12_seek_253 ?_
                                      refine lv_ldcw (v := ii 1000000000) hx hb hown (hts _ q1598) dX12_seek_254 ?_
                                      refine li_icmp_ne (tgt := 265) hx hb ⟨by omega, by omega⟩ ⟨by decide, by decide⟩ dX12_seek_257 (by decide) (fun c257 => ?_) (fun c257 => ?_)
                                      · refine lv_aload_n hx hb dX12_seek_265 rfl (lv_at hl 8 rfl) ?_
                                        refine va_get (D := G) (ci := 11) (v := .ref (am 20)) (C := RX12) (T := TX12) (N := 52) hx hb hts in_X12 hown hK hP 0 (aM_0 _ _ _ _ _) rfl 32 (by decide) (hts _ q1297) (fun _ h9 => h9) rfl dX12_seek_266 ?_
                                        refine lv_aload_n hx hb dX12_seek_269 rfl (lv_at hl 8 rfl) ?_
                                        refine va_get (D := G) (ci := 11) (v := .int (ii w236_33)) (C := RX12) (T := TX12) (N := 52) hx hb hts in_X12 hown hK hP 0 (aM_0 _ _ _ _ _) rfl 33 (by decide) (hts _ q1298) (fun _ h9 => h9) rfl dX12_seek_270 ?_
                                        refine li_iald (g := wg236_32) hx hb hK hP 20 0 (aM_20 _ _ _ _ _) rfl (by omega) (by omega) (by decide) dX12_seek_273 ?_
                                        refine li_iast (g := wg236_32) (W2 := wM am ty τ (up (up (up (up (up (up (up (up (up ρ 29 gm1) 30 (sc (nm1))) 31 wg236_31) 33 (sc (w236_33))) 34 wg236_34) 35 wg236_35) 27 (dcw (qu fi) (mvw ((gm1 k1) / 1000 % 10) ((gm1 k1) % 10) (dcw (qu fi) (mvw ((gm1 k1) / 1000 % 10) ((gm1 k1) % 10) wU))))) 28 (dcq (qu fi) ((ug (ug (dcq (qu fi) ((mvq ((gm1 k1) / 10000) ((gm1 k1) / 100 % 10) ((gm1 k1) % 10) qU))) 0 5) 1 5)))) 32 (ug wg236_32 w236_33 (wg236_32 w236_33))) ++ cs) hx hb hK hP hD hS 20 0 (aM_20 _ _ _ _ _) rfl (by omega) (by omega) (by decide) rfl dX12_seek_274 (fun H locs hP hD hS => ?_)
                                        refine lv_aload_n hx hb dX12_seek_275 rfl (lv_at hl 8 rfl) ?_
                                        refine lv_dup hx hb dX12_seek_276 rfl ?_
                                        refine va_get (D := G) (ci := 11) (v := .int (ii w236_33)) (C := RX12) (T := TX12) (N := 52) hx hb hts in_X12 hown hK hP 0 (aM_0 _ _ _ _ _) rfl 33 (by decide) (hts _ q1298) (fun _ h9 => h9) rfl dX12_seek_277 ?_
                                        refine lv_aload_n hx hb dX12_seek_280 rfl (lv_at hl 8 rfl) ?_
                                        refine va_get (D := G) (ci := 11) (v := .ref (am 19)) (C := RX12) (T := TX12) (N := 52) hx hb hts in_X12 hown hK hP 0 (aM_0 _ _ _ _ _) rfl 31 (by decide) (hts _ q1296) (fun _ h9 => h9) rfl dX12_seek_281 ?_
                                        refine lv_iload hx hb dX12_seek_284 (lv_at hl 0 rfl) ?_
                                        refine li_iald (g := wg236_31) hx hb hK hP 19 0 (aM_19 _ _ _ _ _) rfl (by omega) (by omega) (by decide) dX12_seek_286 ?_
                                        refine lv_ldcw (v := ii 1000000000) hx hb hown (hts _ q1598) dX12_seek_287 ?_
                                        refine li_icmp_ne (tgt := 297) hx hb ⟨by omega, by omega⟩ ⟨by decide, by decide⟩ dX12_seek_290 (by decide) (fun c290 => ?_) (fun c290 => ?_)
                                        · refine li_iconst hx hb dX12_seek_297 ?_
                                          refine li_add hx hb dX12_seek_298 ?_
                                          refine va_put (D := G) (ci := 11) (v := .int (ii (w236_33 + 0))) (ty := .int) (C := RX12) (T := TX12) (N := 52) hx hb hts in_X12 tyX12 tyX12_ok nmX12 hown hK hP hD hS 0 (aM_0 _ _ _ _ _) rfl 33 (by decide) (hts _ q1298) (fun _ h9 => h9) rfl (tyX12_ok 33 (by decide)) rfl rfl (Nat.le_of_ble_eq_true rfl) dX12_seek_299 (fun H locs hP hD hS => ?_)
                                          have hP : va_P G gcl (wM am ty τ (up (up (up (up (up (up (up (up (up ρ 29 gm1) 30 (sc (nm1))) 31 wg236_31) 34 wg236_34) 35 wg236_35) 27 (dcw (qu fi) (mvw ((gm1 k1) / 1000 % 10) ((gm1 k1) % 10) (dcw (qu fi) (mvw ((gm1 k1) / 1000 % 10) ((gm1 k1) % 10) wU))))) 28 (dcq (qu fi) ((ug (ug (dcq (qu fi) ((mvq ((gm1 k1) / 10000) ((gm1 k1) / 100 % 10) ((gm1 k1) % 10) qU))) 0 5) 1 5)))) 32 (ug wg236_32 w236_33 (wg236_32 w236_33))) 33 (sc (w236_33 + 0))) ++ cs) H := hP
                                          have hD : va_D A (wM am ty τ (up (up (up (up (up (up (up (up (up ρ 29 gm1) 30 (sc (nm1))) 31 wg236_31) 34 wg236_34) 35 wg236_35) 27 (dcw (qu fi) (mvw ((gm1 k1) / 1000 % 10) ((gm1 k1) % 10) (dcw (qu fi) (mvw ((gm1 k1) / 1000 % 10) ((gm1 k1) % 10) wU))))) 28 (dcq (qu fi) ((ug (ug (dcq (qu fi) ((mvq ((gm1 k1) / 10000) ((gm1 k1) / 100 % 10) ((gm1 k1) % 10) qU))) 0 5) 1 5)))) 32 (ug wg236_32 w236_33 (wg236_32 w236_33))) 33 (sc (w236_33 + 0))) ++ cs) := hD
                                          refine lv_aload_n hx hb dX12_seek_302 rfl (lv_at hl 8 rfl) ?_
                                          refine va_get (D := G) (ci := 11) (v := .ref (am 19)) (C := RX12) (T := TX12) (N := 52) hx hb hts in_X12 hown hK hP 0 (aM_0 _ _ _ _ _) rfl 31 (by decide) (hts _ q1296) (fun _ h9 => h9) rfl dX12_seek_303 ?_
                                          refine lv_iload hx hb dX12_seek_306 (lv_at hl 0 rfl) ?_
                                          refine lv_aload_n hx hb dX12_seek_308 rfl (lv_at hl 8 rfl) ?_
                                          refine va_get (D := G) (ci := 11) (v := .ref (am 19)) (C := RX12) (T := TX12) (N := 52) hx hb hts in_X12 hown hK hP 0 (aM_0 _ _ _ _ _) rfl 31 (by decide) (hts _ q1296) (fun _ h9 => h9) rfl dX12_seek_309 ?_
                                          refine lv_iload hx hb dX12_seek_312 (lv_at hl 6 rfl) ?_
                                          refine li_iald (g := wg236_31) hx hb hK hP 19 0 (aM_19 _ _ _ _ _) rfl (by omega) (by omega) (by decide) dX12_seek_314 ?_
                                          refine lv_iload hx hb dX12_seek_315 (lv_at hl 2 rfl) ?_
                                          refine li_add hx hb dX12_seek_317 ?_
                                          refine li_iast (g := wg236_31) (W2 := wM am ty τ (up (up (up (up (up (up (up (up (up ρ 29 gm1) 30 (sc (nm1))) 34 wg236_34) 35 wg236_35) 27 (dcw (qu fi) (mvw ((gm1 k1) / 1000 % 10) ((gm1 k1) % 10) (dcw (qu fi) (mvw ((gm1 k1) / 1000 % 10) ((gm1 k1) % 10) wU))))) 28 (dcq (qu fi) ((ug (ug (dcq (qu fi) ((mvq ((gm1 k1) / 10000) ((gm1 k1) / 100 % 10) ((gm1 k1) % 10) qU))) 0 5) 1 5)))) 32 (ug wg236_32 w236_33 (wg236_32 w236_33))) 33 (sc (w236_33 + 0))) 31 (ug wg236_31 (nxc (qu fi) (gm1 k1)) (wg236_31 (qu fi) + z143))) ++ cs) hx hb hK hP hD hS 19 0 (aM_19 _ _ _ _ _) rfl (by omega) (by omega) (by decide) rfl dX12_seek_318 (fun H locs hP hD hS => ?_)
                                          refine lv_aload_n hx hb dX12_seek_319 rfl (lv_at hl 8 rfl) ?_
                                          refine va_get (D := G) (ci := 11) (v := .ref (am 22)) (C := RX12) (T := TX12) (N := 52) hx hb hts in_X12 hown hK hP 0 (aM_0 _ _ _ _ _) rfl 35 (by decide) (hts _ q1300) (fun _ h9 => h9) rfl dX12_seek_320 ?_
                                          refine lv_iload hx hb dX12_seek_323 (lv_at hl 0 rfl) ?_
                                          refine li_zald (g := wg236_35) hx hb hK hP 22 1 (aM_22 _ _ _ _ _) rfl (by omega) (by omega) (by decide) dX12_seek_325 ?_
                                          refine li_if_ne (tgt := 355) hx hb ⟨by omega, by omega⟩ dX12_seek_326 (by decide) (fun c326 => ?_) (fun c326 => ?_)
                                          · exact J236_1 x236_4 (ug wg236_31 (nxc (qu fi) (gm1 k1)) (wg236_31 (qu fi) + z143)) (ug wg236_32 w236_33 (wg236_32 w236_33)) (w236_33 + 0) wg236_34 wg236_35 (by have h := relO_q (hj236.1) hic hlc2 ⟨gm1 k1, hleg, hval, .inr ⟨hk3, rfl⟩⟩ hny (by omega) (by omega) c236 (by omega); rw [if_neg c257, if_neg c257] at h; rw [ug_same (g := wg236_32) (k := w236_33) rfl, Int.add_zero]; exact h) H locs hP hD hS ls (lv_sub hl [0, 1, 2, 3, 4, 5, 6, 7, 8, 9] rfl)
                                          · refine lv_aload_n hx hb dX12_seek_329 rfl (lv_at hl 8 rfl) ?_
                                            refine va_get (D := G) (ci := 11) (v := .ref (am 22)) (C := RX12) (T := TX12) (N := 52) hx hb hts in_X12 hown hK hP 0 (aM_0 _ _ _ _ _) rfl 35 (by decide) (hts _ q1300) (fun _ h9 => h9) rfl dX12_seek_330 ?_
                                            refine lv_iload hx hb dX12_seek_333 (lv_at hl 0 rfl) ?_
                                            refine li_iconst hx hb dX12_seek_335 ?_
                                            refine li_zast (g := wg236_35) (W2 := wM am ty τ (up (up (up (up (up (up (up (up (up ρ 29 gm1) 30 (sc (nm1))) 34 wg236_34) 27 (dcw (qu fi) (mvw ((gm1 k1) / 1000 % 10) ((gm1 k1) % 10) (dcw (qu fi) (mvw ((gm1 k1) / 1000 % 10) ((gm1 k1) % 10) wU))))) 28 (dcq (qu fi) ((ug (ug (dcq (qu fi) ((mvq ((gm1 k1) / 10000) ((gm1 k1) / 100 % 10) ((gm1 k1) % 10) qU))) 0 5) 1 5)))) 32 (ug wg236_32 w236_33 (wg236_32 w236_33))) 33 (sc (w236_33 + 0))) 31 (ug wg236_31 (nxc (qu fi) (gm1 k1)) (wg236_31 (qu fi) + z143))) 35 (ug wg236_35 (nxc (qu fi) (gm1 k1)) 1)) ++ cs) hx hb hK hP hD hS 22 1 (aM_22 _ _ _ _ _) rfl (by omega) (by omega) (by decide) (by omega) rfl dX12_seek_336 (fun H locs hP hD hS => ?_)
                                            refine lv_aload_n hx hb dX12_seek_337 rfl (lv_at hl 8 rfl) ?_
                                            refine va_get (D := G) (ci := 11) (v := .ref (am 21)) (C := RX12) (T := TX12) (N := 52) hx hb hts in_X12 hown hK hP 0 (aM_0 _ _ _ _ _) rfl 34 (by decide) (hts _ q1299) (fun _ h9 => h9) rfl dX12_seek_338 ?_
                                            refine lv_iload_n hx hb dX12_seek_341 rfl (lv_at hl 5 rfl) ?_
                                            refine lv_iload hx hb dX12_seek_342 (lv_at hl 4 rfl) ?_
                                            refine li_add hx hb dX12_seek_344 ?_
                                            refine li_sipush hx hb dX12_seek_345 (by decide) ?_
                                            refine li_rem hx hb (by omega) (by omega) (by omega) (by omega) dX12_seek_348 ?_
                                            refine lv_iload hx hb dX12_seek_349 (lv_at hl 0 rfl) ?_
                                            refine li_iast (g := wg236_34) (W2 := wM am ty τ (up (up (up (up (up (up (up (up (up ρ 29 gm1) 30 (sc (nm1))) 27 (dcw (qu fi) (mvw ((gm1 k1) / 1000 % 10) ((gm1 k1) % 10) (dcw (qu fi) (mvw ((gm1 k1) / 1000 % 10) ((gm1 k1) % 10) wU))))) 28 (dcq (qu fi) ((ug (ug (dcq (qu fi) ((mvq ((gm1 k1) / 10000) ((gm1 k1) / 100 % 10) ((gm1 k1) % 10) qU))) 0 5) 1 5)))) 32 (ug wg236_32 w236_33 (wg236_32 w236_33))) 33 (sc (w236_33 + 0))) 31 (ug wg236_31 (nxc (qu fi) (gm1 k1)) (wg236_31 (qu fi) + z143))) 35 (ug wg236_35 (nxc (qu fi) (gm1 k1)) 1)) 34 (ug wg236_34 ((y95_0 + x236_4) % 4500) (nxc (qu fi) (gm1 k1)))) ++ cs) hx hb hK hP hD hS 21 0 (aM_21 _ _ _ _ _) rfl (by omega) (by omega) (by decide) rfl dX12_seek_351 (fun H locs hP hD hS => ?_)
                                            refine li_iinc (a := x236_4) (lv' := [(4, .int (ii (x236_4 + 1))), (9, .int (ii (nxc (qu fi) (gm1 k1)))), (8, .int (ii 1)), (7, .int (ii z143)), (6, .int (ii k1)), (3, .int (ii y95_0)), (5, .int (ii (qu fi))), (2, .int (ii (cdv (F 6) (F 7)))), (0, .ref (am 0)), (1, .int (ii 1))]) hx hb dX12_seek_352 hl (k := 4) rfl (by decide) rfl (fun ls hl => ?_)
                                            exact J236_1 (x236_4 + 1) (ug wg236_31 (nxc (qu fi) (gm1 k1)) (wg236_31 (qu fi) + z143)) (ug wg236_32 w236_33 (wg236_32 w236_33)) (w236_33 + 0) (ug wg236_34 ((y95_0 + x236_4) % 4500) (nxc (qu fi) (gm1 k1))) (ug wg236_35 (nxc (qu fi) (gm1 k1)) 1) (by have h := relO_n (hj236.1) hic hlc2 ⟨gm1 k1, hleg, hval, .inr ⟨hk3, rfl⟩⟩ hny (by omega) (by omega) c236 (by omega); rw [if_neg c257, if_neg c257] at h; rw [ug_same (g := wg236_32) (k := w236_33) rfl, Int.add_zero]; exact h) H locs hP hD hS ls (lv_sub hl [1, 2, 3, 4, 0, 5, 6, 7, 8, 9] rfl)
                                        · exfalso
                                          exact absurd c290 c257
                                      · refine lv_iload hx hb dX12_seek_260 (lv_at hl 0 rfl) ?_
                                        refine lv_goto (tgt := 274) hx hb dX12_seek_262 (by decide) ?_
                                        refine li_iast (g := wg236_32) (W2 := wM am ty τ (up (up (up (up (up (up (up (up (up ρ 29 gm1) 30 (sc (nm1))) 31 wg236_31) 33 (sc (w236_33))) 34 wg236_34) 35 wg236_35) 27 (dcw (qu fi) (mvw ((gm1 k1) / 1000 % 10) ((gm1 k1) % 10) (dcw (qu fi) (mvw ((gm1 k1) / 1000 % 10) ((gm1 k1) % 10) wU))))) 28 (dcq (qu fi) ((ug (ug (dcq (qu fi) ((mvq ((gm1 k1) / 10000) ((gm1 k1) / 100 % 10) ((gm1 k1) % 10) qU))) 0 5) 1 5)))) 32 (ug wg236_32 w236_33 (nxc (qu fi) (gm1 k1)))) ++ cs) hx hb hK hP hD hS 20 0 (aM_20 _ _ _ _ _) rfl (by omega) (by omega) (by decide) rfl dX12_seek_274 (fun H locs hP hD hS => ?_)
                                        refine lv_aload_n hx hb dX12_seek_275 rfl (lv_at hl 8 rfl) ?_
                                        refine lv_dup hx hb dX12_seek_276 rfl ?_
                                        refine va_get (D := G) (ci := 11) (v := .int (ii w236_33)) (C := RX12) (T := TX12) (N := 52) hx hb hts in_X12 hown hK hP 0 (aM_0 _ _ _ _ _) rfl 33 (by decide) (hts _ q1298) (fun _ h9 => h9) rfl dX12_seek_277 ?_
                                        refine lv_aload_n hx hb dX12_seek_280 rfl (lv_at hl 8 rfl) ?_
                                        refine va_get (D := G) (ci := 11) (v := .ref (am 19)) (C := RX12) (T := TX12) (N := 52) hx hb hts in_X12 hown hK hP 0 (aM_0 _ _ _ _ _) rfl 31 (by decide) (hts _ q1296) (fun _ h9 => h9) rfl dX12_seek_281 ?_
                                        refine lv_iload hx hb dX12_seek_284 (lv_at hl 0 rfl) ?_
                                        refine li_iald (g := wg236_31) hx hb hK hP 19 0 (aM_19 _ _ _ _ _) rfl (by omega) (by omega) (by decide) dX12_seek_286 ?_
                                        refine lv_ldcw (v := ii 1000000000) hx hb hown (hts _ q1598) dX12_seek_287 ?_
                                        refine li_icmp_ne (tgt := 297) hx hb ⟨by omega, by omega⟩ ⟨by decide, by decide⟩ dX12_seek_290 (by decide) (fun c290 => ?_) (fun c290 => ?_)
                                        · exfalso
                                          exact absurd c257 c290
                                        · refine li_iconst hx hb dX12_seek_293 ?_
                                          refine lv_goto (tgt := 298) hx hb dX12_seek_294 (by decide) ?_
                                          refine li_add hx hb dX12_seek_298 ?_
                                          refine va_put (D := G) (ci := 11) (v := .int (ii (w236_33 + 1))) (ty := .int) (C := RX12) (T := TX12) (N := 52) hx hb hts in_X12 tyX12 tyX12_ok nmX12 hown hK hP hD hS 0 (aM_0 _ _ _ _ _) rfl 33 (by decide) (hts _ q1298) (fun _ h9 => h9) rfl (tyX12_ok 33 (by decide)) rfl rfl (Nat.le_of_ble_eq_true rfl) dX12_seek_299 (fun H locs hP hD hS => ?_)
                                          have hP : va_P G gcl (wM am ty τ (up (up (up (up (up (up (up (up (up ρ 29 gm1) 30 (sc (nm1))) 31 wg236_31) 34 wg236_34) 35 wg236_35) 27 (dcw (qu fi) (mvw ((gm1 k1) / 1000 % 10) ((gm1 k1) % 10) (dcw (qu fi) (mvw ((gm1 k1) / 1000 % 10) ((gm1 k1) % 10) wU))))) 28 (dcq (qu fi) ((ug (ug (dcq (qu fi) ((mvq ((gm1 k1) / 10000) ((gm1 k1) / 100 % 10) ((gm1 k1) % 10) qU))) 0 5) 1 5)))) 32 (ug wg236_32 w236_33 (nxc (qu fi) (gm1 k1)))) 33 (sc (w236_33 + 1))) ++ cs) H := hP
                                          have hD : va_D A (wM am ty τ (up (up (up (up (up (up (up (up (up ρ 29 gm1) 30 (sc (nm1))) 31 wg236_31) 34 wg236_34) 35 wg236_35) 27 (dcw (qu fi) (mvw ((gm1 k1) / 1000 % 10) ((gm1 k1) % 10) (dcw (qu fi) (mvw ((gm1 k1) / 1000 % 10) ((gm1 k1) % 10) wU))))) 28 (dcq (qu fi) ((ug (ug (dcq (qu fi) ((mvq ((gm1 k1) / 10000) ((gm1 k1) / 100 % 10) ((gm1 k1) % 10) qU))) 0 5) 1 5)))) 32 (ug wg236_32 w236_33 (nxc (qu fi) (gm1 k1)))) 33 (sc (w236_33 + 1))) ++ cs) := hD
                                          refine lv_aload_n hx hb dX12_seek_302 rfl (lv_at hl 8 rfl) ?_
                                          refine va_get (D := G) (ci := 11) (v := .ref (am 19)) (C := RX12) (T := TX12) (N := 52) hx hb hts in_X12 hown hK hP 0 (aM_0 _ _ _ _ _) rfl 31 (by decide) (hts _ q1296) (fun _ h9 => h9) rfl dX12_seek_303 ?_
                                          refine lv_iload hx hb dX12_seek_306 (lv_at hl 0 rfl) ?_
                                          refine lv_aload_n hx hb dX12_seek_308 rfl (lv_at hl 8 rfl) ?_
                                          refine va_get (D := G) (ci := 11) (v := .ref (am 19)) (C := RX12) (T := TX12) (N := 52) hx hb hts in_X12 hown hK hP 0 (aM_0 _ _ _ _ _) rfl 31 (by decide) (hts _ q1296) (fun _ h9 => h9) rfl dX12_seek_309 ?_
                                          refine lv_iload hx hb dX12_seek_312 (lv_at hl 6 rfl) ?_
                                          refine li_iald (g := wg236_31) hx hb hK hP 19 0 (aM_19 _ _ _ _ _) rfl (by omega) (by omega) (by decide) dX12_seek_314 ?_
                                          refine lv_iload hx hb dX12_seek_315 (lv_at hl 2 rfl) ?_
                                          refine li_add hx hb dX12_seek_317 ?_
                                          refine li_iast (g := wg236_31) (W2 := wM am ty τ (up (up (up (up (up (up (up (up (up ρ 29 gm1) 30 (sc (nm1))) 34 wg236_34) 35 wg236_35) 27 (dcw (qu fi) (mvw ((gm1 k1) / 1000 % 10) ((gm1 k1) % 10) (dcw (qu fi) (mvw ((gm1 k1) / 1000 % 10) ((gm1 k1) % 10) wU))))) 28 (dcq (qu fi) ((ug (ug (dcq (qu fi) ((mvq ((gm1 k1) / 10000) ((gm1 k1) / 100 % 10) ((gm1 k1) % 10) qU))) 0 5) 1 5)))) 32 (ug wg236_32 w236_33 (nxc (qu fi) (gm1 k1)))) 33 (sc (w236_33 + 1))) 31 (ug wg236_31 (nxc (qu fi) (gm1 k1)) (wg236_31 (qu fi) + z143))) ++ cs) hx hb hK hP hD hS 19 0 (aM_19 _ _ _ _ _) rfl (by omega) (by omega) (by decide) rfl dX12_seek_318 (fun H locs hP hD hS => ?_)
                                          refine lv_aload_n hx hb dX12_seek_319 rfl (lv_at hl 8 rfl) ?_
                                          refine va_get (D := G) (ci := 11) (v := .ref (am 22)) (C := RX12) (T := TX12) (N := 52) hx hb hts in_X12 hown hK hP 0 (aM_0 _ _ _ _ _) rfl 35 (by decide) (hts _ q1300) (fun _ h9 => h9) rfl dX12_seek_320 ?_
                                          refine lv_iload hx hb dX12_seek_323 (lv_at hl 0 rfl) ?_
                                          refine li_zald (g := wg236_35) hx hb hK hP 22 1 (aM_22 _ _ _ _ _) rfl (by omega) (by omega) (by decide) dX12_seek_325 ?_
                                          refine li_if_ne (tgt := 355) hx hb ⟨by omega, by omega⟩ dX12_seek_326 (by decide) (fun c326 => ?_) (fun c326 => ?_)
                                          · exact J236_1 x236_4 (ug wg236_31 (nxc (qu fi) (gm1 k1)) (wg236_31 (qu fi) + z143)) (ug wg236_32 w236_33 (nxc (qu fi) (gm1 k1))) (w236_33 + 1) wg236_34 wg236_35 (by have h := relO_q (hj236.1) hic hlc2 ⟨gm1 k1, hleg, hval, .inr ⟨hk3, rfl⟩⟩ hny (by omega) (by omega) c236 (by omega); rw [if_pos c257, if_pos c257] at h; exact h) H locs hP hD hS ls (lv_sub hl [0, 1, 2, 3, 4, 5, 6, 7, 8, 9] rfl)
                                          · refine lv_aload_n hx hb dX12_seek_329 rfl (lv_at hl 8 rfl) ?_
                                            refine va_get (D := G) (ci := 11) (v := .ref (am 22)) (C := RX12) (T := TX12) (N := 52) hx hb hts in_X12 hown hK hP 0 (aM_0 _ _ _ _ _) rfl 35 (by decide) (hts _ q1300) (fun _ h9 => h9) rfl dX12_seek_330 ?_
                                            refine lv_iload hx hb dX12_seek_333 (lv_at hl 0 rfl) ?_
                                            refine li_iconst hx hb dX12_seek_335 ?_
                                            refine li_zast (g := wg236_35) (W2 := wM am ty τ (up (up (up (up (up (up (up (up (up ρ 29 gm1) 30 (sc (nm1))) 34 wg236_34) 27 (dcw (qu fi) (mvw ((gm1 k1) / 1000 % 10) ((gm1 k1) % 10) (dcw (qu fi) (mvw ((gm1 k1) / 1000 % 10) ((gm1 k1) % 10) wU))))) 28 (dcq (qu fi) ((ug (ug (dcq (qu fi) ((mvq ((gm1 k1) / 10000) ((gm1 k1) / 100 % 10) ((gm1 k1) % 10) qU))) 0 5) 1 5)))) 32 (ug wg236_32 w236_33 (nxc (qu fi) (gm1 k1)))) 33 (sc (w236_33 + 1))) 31 (ug wg236_31 (nxc (qu fi) (gm1 k1)) (wg236_31 (qu fi) + z143))) 35 (ug wg236_35 (nxc (qu fi) (gm1 k1)) 1)) ++ cs) hx hb hK hP hD hS 22 1 (aM_22 _ _ _ _ _) rfl (by omega) (by omega) (by decide) (by omega) rfl dX12_seek_336 (fun H locs hP hD hS => ?_)
                                            refine lv_aload_n hx hb dX12_seek_337 rfl (lv_at hl 8 rfl) ?_
                                            refine va_get (D := G) (ci := 11) (v := .ref (am 21)) (C := RX12) (T := TX12) (N := 52) hx hb hts in_X12 hown hK hP 0 (aM_0 _ _ _ _ _) rfl 34 (by decide) (hts _ q1299) (fun _ h9 => h9) rfl dX12_seek_338 ?_
                                            refine lv_iload_n hx hb dX12_seek_341 rfl (lv_at hl 5 rfl) ?_
                                            refine lv_iload hx hb dX12_seek_342 (lv_at hl 4 rfl) ?_
                                            refine li_add hx hb dX12_seek_344 ?_
                                            refine li_sipush hx hb dX12_seek_345 (by decide) ?_
                                            refine li_rem hx hb (by omega) (by omega) (by omega) (by omega) dX12_seek_348 ?_
                                            refine lv_iload hx hb dX12_seek_349 (lv_at hl 0 rfl) ?_
                                            refine li_iast (g := wg236_34) (W2 := wM am ty τ (up (up (up (up (up (up (up (up (up ρ 29 gm1) 30 (sc (nm1))) 27 (dcw (qu fi) (mvw ((gm1 k1) / 1000 % 10) ((gm1 k1) % 10) (dcw (qu fi) (mvw ((gm1 k1) / 1000 % 10) ((gm1 k1) % 10) wU))))) 28 (dcq (qu fi) ((ug (ug (dcq (qu fi) ((mvq ((gm1 k1) / 10000) ((gm1 k1) / 100 % 10) ((gm1 k1) % 10) qU))) 0 5) 1 5)))) 32 (ug wg236_32 w236_33 (nxc (qu fi) (gm1 k1)))) 33 (sc (w236_33 + 1))) 31 (ug wg236_31 (nxc (qu fi) (gm1 k1)) (wg236_31 (qu fi) + z143))) 35 (ug wg236_35 (nxc (qu fi) (gm1 k1)) 1)) 34 (ug wg236_34 ((y95_0 + x236_4) % 4500) (nxc (qu fi) (gm1 k1)))) ++ cs) hx hb hK hP hD hS 21 0 (aM_21 _ _ _ _ _) rfl (by omega) (by omega) (by decide) rfl dX12_seek_351 (fun H locs hP hD hS => ?_)
                                            refine li_iinc (a := x236_4) (lv' := [(4, .int (ii (x236_4 + 1))), (9, .int (ii (nxc (qu fi) (gm1 k1)))), (8, .int (ii 1)), (7, .int (ii z143)), (6, .int (ii k1)), (3, .int (ii y95_0)), (5, .int (ii (qu fi))), (2, .int (ii (cdv (F 6) (F 7)))), (0, .ref (am 0)), (1, .int (ii 1))]) hx hb dX12_seek_352 hl (k := 4) rfl (by decide) rfl (fun ls hl => ?_)
                                            exact J236_1 (x236_4 + 1) (ug wg236_31 (nxc (qu fi) (gm1 k1)) (wg236_31 (qu fi) + z143)) (ug wg236_32 w236_33 (nxc (qu fi) (gm1 k1))) (w236_33 + 1) (ug wg236_34 ((y95_0 + x236_4) % 4500) (nxc (qu fi) (gm1 k1))) (ug wg236_35 (nxc (qu fi) (gm1 k1)) 1) (by have h := relO_n (hj236.1) hic hlc2 ⟨gm1 k1, hleg, hval, .inr ⟨hk3, rfl⟩⟩ hny (by omega) (by omega) c236 (by omega); rw [if_pos c257, if_pos c257] at h; exact h) H locs hP hD hS ls (lv_sub hl [1, 2, 3, 4, 0, 5, 6, 7, 8, 9] rfl)
                            refine li_if_eq (tgt := 176) hx hb ⟨by decide, by decide⟩ dX12_seek_154 (by decide) (fun c154 => ?_) (fun c154 => ?_)
                            · exact absurd c154 (by decide)
                            · refine lv_aload_n hx hb dX12_seek_157 rfl (lv_at hl 8 rfl) ?_
                              refine va_get (D := G) (ci := 11) (v := .ref (am 18)) (C := RX12) (T := TX12) (N := 52) hx hb hts in_X12 hown hK hP 0 (aM_0 _ _ _ _ _) rfl 29 (by decide) (hts _ q1294) (fun _ h9 => h9) rfl dX12_seek_158 ?_
                              refine lv_iload hx hb dX12_seek_161 (lv_at hl 3 rfl) ?_
                              refine li_iald (g := gm1) hx hb hK hP 18 0 (aM_18 _ _ _ _ _) rfl (by omega) (by omega) (by decide) dX12_seek_163 ?_
                              refine li_sipush hx hb dX12_seek_164 (by decide) ?_
                              refine li_div hx hb (by omega) (by omega) (by omega) (by omega) dX12_seek_167 ?_
                              refine li_iconst hx hb dX12_seek_168 ?_
                              refine li_icmp_ne (tgt := 176) hx hb ⟨by omega, by omega⟩ ⟨by decide, by decide⟩ dX12_seek_169 (by decide) (fun c169 => ?_) (fun c169 => ?_)
                              · refine li_iconst hx hb dX12_seek_176 ?_
                                exact J154_1 1 (by omega) H locs hP hD hS ls (lv_sub hl [0, 1, 2, 3, 4, 5, 6, 7, 8, 9] rfl)
                              · refine li_iconst hx hb dX12_seek_172 ?_
                                refine lv_goto (tgt := 177) hx hb dX12_seek_173 (by decide) ?_
                                exact J154_1 2 (by omega) H locs hP hD hS ls (lv_sub hl [0, 1, 2, 3, 4, 5, 6, 7, 8, 9] rfl)
                          refine li_icmp_ge (tgt := 355) hx hb ⟨by omega, by omega⟩ ⟨by omega, by omega⟩ dX12_seek_236 (by decide) (fun c236 => ?_) (fun c236 => ?_)
                          · exact J236 mb lb mf nb qv qb (relO_no (hSKb) (by omega)) H locs hP hD hS ls (lv_sub hl [0, 1, 2, 3, 4, 5, 6, 7, 8, 9] rfl)
                          · refine lv_aload_n hx hb dX12_seek_239 rfl (lv_at hl 8 rfl) ?_
                            refine va_get (D := G) (ci := 11) (v := .ref (am 20)) (C := RX12) (T := TX12) (N := 52) hx hb hts in_X12 hown hK hP 0 (aM_0 _ _ _ _ _) rfl 32 (by decide) (hts _ q1297) (fun _ h9 => h9) rfl dX12_seek_240 ?_
                            refine lv_aload_n hx hb dX12_seek_243 rfl (lv_at hl 8 rfl) ?_
                            refine va_get (D := G) (ci := 11) (v := .int (ii nb)) (C := RX12) (T := TX12) (N := 52) hx hb hts in_X12 hown hK hP 0 (aM_0 _ _ _ _ _) rfl 33 (by decide) (hts _ q1298) (fun _ h9 => h9) rfl dX12_seek_244 ?_
                            refine lv_aload_n hx hb dX12_seek_247 rfl (lv_at hl 8 rfl) ?_
                            refine va_get (D := G) (ci := 11) (v := .ref (am 19)) (C := RX12) (T := TX12) (N := 52) hx hb hts in_X12 hown hK hP 0 (aM_0 _ _ _ _ _) rfl 31 (by decide) (hts _ q1296) (fun _ h9 => h9) rfl dX12_seek_248 ?_
                            refine lv_iload hx hb dX12_seek_251 (lv_at hl 0 rfl) ?_
                            refine li_iald (g := lb) hx hb hK hP 19 0 (aM_19 _ _ _ _ _) rfl (by omega) (by omega) (by decide) dX12_seek_253 ?_
                            refine lv_ldcw (v := ii 1000000000) hx hb hown (hts _ q1598) dX12_seek_254 ?_
                            refine li_icmp_ne (tgt := 265) hx hb ⟨by omega, by omega⟩ ⟨by decide, by decide⟩ dX12_seek_257 (by decide) (fun c257 => ?_) (fun c257 => ?_)
                            · refine lv_aload_n hx hb dX12_seek_265 rfl (lv_at hl 8 rfl) ?_
                              refine va_get (D := G) (ci := 11) (v := .ref (am 20)) (C := RX12) (T := TX12) (N := 52) hx hb hts in_X12 hown hK hP 0 (aM_0 _ _ _ _ _) rfl 32 (by decide) (hts _ q1297) (fun _ h9 => h9) rfl dX12_seek_266 ?_
                              refine lv_aload_n hx hb dX12_seek_269 rfl (lv_at hl 8 rfl) ?_
                              refine va_get (D := G) (ci := 11) (v := .int (ii nb)) (C := RX12) (T := TX12) (N := 52) hx hb hts in_X12 hown hK hP 0 (aM_0 _ _ _ _ _) rfl 33 (by decide) (hts _ q1298) (fun _ h9 => h9) rfl dX12_seek_270 ?_
                              refine li_iald (g := mf) hx hb hK hP 20 0 (aM_20 _ _ _ _ _) rfl (by omega) (by omega) (by decide) dX12_seek_273 ?_
                              refine li_iast (g := mf) (W2 := wM am ty τ (up (up (up (up (up (up (up (up (up ρ 29 gm1) 30 (sc (nm1))) 31 lb) 33 (sc (nb))) 34 qv) 35 qb) 27 (dcw (qu fi) (mvw ((gm1 k1) / 1000 % 10) ((gm1 k1) % 10) wU))) 28 (dcq (qu fi) ((mvq ((gm1 k1) / 10000) ((gm1 k1) / 100 % 10) ((gm1 k1) % 10) qU)))) 32 (ug mf nb (mf nb))) ++ cs) hx hb hK hP hD hS 20 0 (aM_20 _ _ _ _ _) rfl (by omega) (by omega) (by decide) rfl dX12_seek_274 (fun H locs hP hD hS => ?_)
                              refine lv_aload_n hx hb dX12_seek_275 rfl (lv_at hl 8 rfl) ?_
                              refine lv_dup hx hb dX12_seek_276 rfl ?_
                              refine va_get (D := G) (ci := 11) (v := .int (ii nb)) (C := RX12) (T := TX12) (N := 52) hx hb hts in_X12 hown hK hP 0 (aM_0 _ _ _ _ _) rfl 33 (by decide) (hts _ q1298) (fun _ h9 => h9) rfl dX12_seek_277 ?_
                              refine lv_aload_n hx hb dX12_seek_280 rfl (lv_at hl 8 rfl) ?_
                              refine va_get (D := G) (ci := 11) (v := .ref (am 19)) (C := RX12) (T := TX12) (N := 52) hx hb hts in_X12 hown hK hP 0 (aM_0 _ _ _ _ _) rfl 31 (by decide) (hts _ q1296) (fun _ h9 => h9) rfl dX12_seek_281 ?_
                              refine lv_iload hx hb dX12_seek_284 (lv_at hl 0 rfl) ?_
                              refine li_iald (g := lb) hx hb hK hP 19 0 (aM_19 _ _ _ _ _) rfl (by omega) (by omega) (by decide) dX12_seek_286 ?_
                              refine lv_ldcw (v := ii 1000000000) hx hb hown (hts _ q1598) dX12_seek_287 ?_
                              refine li_icmp_ne (tgt := 297) hx hb ⟨by omega, by omega⟩ ⟨by decide, by decide⟩ dX12_seek_290 (by decide) (fun c290 => ?_) (fun c290 => ?_)
                              · refine li_iconst hx hb dX12_seek_297 ?_
                                refine li_add hx hb dX12_seek_298 ?_
                                refine va_put (D := G) (ci := 11) (v := .int (ii (nb + 0))) (ty := .int) (C := RX12) (T := TX12) (N := 52) hx hb hts in_X12 tyX12 tyX12_ok nmX12 hown hK hP hD hS 0 (aM_0 _ _ _ _ _) rfl 33 (by decide) (hts _ q1298) (fun _ h9 => h9) rfl (tyX12_ok 33 (by decide)) rfl rfl (Nat.le_of_ble_eq_true rfl) dX12_seek_299 (fun H locs hP hD hS => ?_)
                                have hP : va_P G gcl (wM am ty τ (up (up (up (up (up (up (up (up (up ρ 29 gm1) 30 (sc (nm1))) 31 lb) 34 qv) 35 qb) 27 (dcw (qu fi) (mvw ((gm1 k1) / 1000 % 10) ((gm1 k1) % 10) wU))) 28 (dcq (qu fi) ((mvq ((gm1 k1) / 10000) ((gm1 k1) / 100 % 10) ((gm1 k1) % 10) qU)))) 32 (ug mf nb (mf nb))) 33 (sc (nb + 0))) ++ cs) H := hP
                                have hD : va_D A (wM am ty τ (up (up (up (up (up (up (up (up (up ρ 29 gm1) 30 (sc (nm1))) 31 lb) 34 qv) 35 qb) 27 (dcw (qu fi) (mvw ((gm1 k1) / 1000 % 10) ((gm1 k1) % 10) wU))) 28 (dcq (qu fi) ((mvq ((gm1 k1) / 10000) ((gm1 k1) / 100 % 10) ((gm1 k1) % 10) qU)))) 32 (ug mf nb (mf nb))) 33 (sc (nb + 0))) ++ cs) := hD
                                refine lv_aload_n hx hb dX12_seek_302 rfl (lv_at hl 8 rfl) ?_
                                refine va_get (D := G) (ci := 11) (v := .ref (am 19)) (C := RX12) (T := TX12) (N := 52) hx hb hts in_X12 hown hK hP 0 (aM_0 _ _ _ _ _) rfl 31 (by decide) (hts _ q1296) (fun _ h9 => h9) rfl dX12_seek_303 ?_
                                refine lv_iload hx hb dX12_seek_306 (lv_at hl 0 rfl) ?_
                                refine lv_aload_n hx hb dX12_seek_308 rfl (lv_at hl 8 rfl) ?_
                                refine va_get (D := G) (ci := 11) (v := .ref (am 19)) (C := RX12) (T := TX12) (N := 52) hx hb hts in_X12 hown hK hP 0 (aM_0 _ _ _ _ _) rfl 31 (by decide) (hts _ q1296) (fun _ h9 => h9) rfl dX12_seek_309 ?_
                                refine lv_iload hx hb dX12_seek_312 (lv_at hl 6 rfl) ?_
                                refine li_iald (g := lb) hx hb hK hP 19 0 (aM_19 _ _ _ _ _) rfl (by omega) (by omega) (by decide) dX12_seek_314 ?_
                                refine lv_iload hx hb dX12_seek_315 (lv_at hl 2 rfl) ?_
                                refine li_add hx hb dX12_seek_317 ?_
                                refine li_iast (g := lb) (W2 := wM am ty τ (up (up (up (up (up (up (up (up (up ρ 29 gm1) 30 (sc (nm1))) 34 qv) 35 qb) 27 (dcw (qu fi) (mvw ((gm1 k1) / 1000 % 10) ((gm1 k1) % 10) wU))) 28 (dcq (qu fi) ((mvq ((gm1 k1) / 10000) ((gm1 k1) / 100 % 10) ((gm1 k1) % 10) qU)))) 32 (ug mf nb (mf nb))) 33 (sc (nb + 0))) 31 (ug lb (nx (qu fi) (gm1 k1)) (lb (qu fi) + z143))) ++ cs) hx hb hK hP hD hS 19 0 (aM_19 _ _ _ _ _) rfl (by omega) (by omega) (by decide) rfl dX12_seek_318 (fun H locs hP hD hS => ?_)
                                refine lv_aload_n hx hb dX12_seek_319 rfl (lv_at hl 8 rfl) ?_
                                refine va_get (D := G) (ci := 11) (v := .ref (am 22)) (C := RX12) (T := TX12) (N := 52) hx hb hts in_X12 hown hK hP 0 (aM_0 _ _ _ _ _) rfl 35 (by decide) (hts _ q1300) (fun _ h9 => h9) rfl dX12_seek_320 ?_
                                refine lv_iload hx hb dX12_seek_323 (lv_at hl 0 rfl) ?_
                                refine li_zald (g := qb) hx hb hK hP 22 1 (aM_22 _ _ _ _ _) rfl (by omega) (by omega) (by decide) dX12_seek_325 ?_
                                refine li_if_ne (tgt := 355) hx hb ⟨by omega, by omega⟩ dX12_seek_326 (by decide) (fun c326 => ?_) (fun c326 => ?_)
                                · exact J236 mb (ug lb (nx (qu fi) (gm1 k1)) (lb (qu fi) + z143)) (ug mf nb (mf nb)) (nb + 0) qv qb (by have h := relO_q (hSKb) hic hlcb ⟨gm1 k1, hleg, hval, .inl rfl⟩ hnx (by omega) (by omega) c236 (by omega); rw [if_neg c257, if_neg c257] at h; rw [ug_same (g := mf) (k := nb) rfl, Int.add_zero]; exact h) H locs hP hD hS ls (lv_sub hl [0, 1, 2, 3, 4, 5, 6, 7, 8, 9] rfl)
                                · refine lv_aload_n hx hb dX12_seek_329 rfl (lv_at hl 8 rfl) ?_
                                  refine va_get (D := G) (ci := 11) (v := .ref (am 22)) (C := RX12) (T := TX12) (N := 52) hx hb hts in_X12 hown hK hP 0 (aM_0 _ _ _ _ _) rfl 35 (by decide) (hts _ q1300) (fun _ h9 => h9) rfl dX12_seek_330 ?_
                                  refine lv_iload hx hb dX12_seek_333 (lv_at hl 0 rfl) ?_
                                  refine li_iconst hx hb dX12_seek_335 ?_
                                  refine li_zast (g := qb) (W2 := wM am ty τ (up (up (up (up (up (up (up (up (up ρ 29 gm1) 30 (sc (nm1))) 34 qv) 27 (dcw (qu fi) (mvw ((gm1 k1) / 1000 % 10) ((gm1 k1) % 10) wU))) 28 (dcq (qu fi) ((mvq ((gm1 k1) / 10000) ((gm1 k1) / 100 % 10) ((gm1 k1) % 10) qU)))) 32 (ug mf nb (mf nb))) 33 (sc (nb + 0))) 31 (ug lb (nx (qu fi) (gm1 k1)) (lb (qu fi) + z143))) 35 (ug qb (nx (qu fi) (gm1 k1)) 1)) ++ cs) hx hb hK hP hD hS 22 1 (aM_22 _ _ _ _ _) rfl (by omega) (by omega) (by decide) (by omega) rfl dX12_seek_336 (fun H locs hP hD hS => ?_)
                                  refine lv_aload_n hx hb dX12_seek_337 rfl (lv_at hl 8 rfl) ?_
                                  refine va_get (D := G) (ci := 11) (v := .ref (am 21)) (C := RX12) (T := TX12) (N := 52) hx hb hts in_X12 hown hK hP 0 (aM_0 _ _ _ _ _) rfl 34 (by decide) (hts _ q1299) (fun _ h9 => h9) rfl dX12_seek_338 ?_
                                  refine lv_iload_n hx hb dX12_seek_341 rfl (lv_at hl 5 rfl) ?_
                                  refine lv_iload hx hb dX12_seek_342 (lv_at hl 4 rfl) ?_
                                  refine li_add hx hb dX12_seek_344 ?_
                                  refine li_sipush hx hb dX12_seek_345 (by decide) ?_
                                  refine li_rem hx hb (by omega) (by omega) (by omega) (by omega) dX12_seek_348 ?_
                                  refine lv_iload hx hb dX12_seek_349 (lv_at hl 0 rfl) ?_
                                  refine li_iast (g := qv) (W2 := wM am ty τ (up (up (up (up (up (up (up (up (up ρ 29 gm1) 30 (sc (nm1))) 27 (dcw (qu fi) (mvw ((gm1 k1) / 1000 % 10) ((gm1 k1) % 10) wU))) 28 (dcq (qu fi) ((mvq ((gm1 k1) / 10000) ((gm1 k1) / 100 % 10) ((gm1 k1) % 10) qU)))) 32 (ug mf nb (mf nb))) 33 (sc (nb + 0))) 31 (ug lb (nx (qu fi) (gm1 k1)) (lb (qu fi) + z143))) 35 (ug qb (nx (qu fi) (gm1 k1)) 1)) 34 (ug qv ((y95_0 + mb) % 4500) (nx (qu fi) (gm1 k1)))) ++ cs) hx hb hK hP hD hS 21 0 (aM_21 _ _ _ _ _) rfl (by omega) (by omega) (by decide) rfl dX12_seek_351 (fun H locs hP hD hS => ?_)
                                  refine li_iinc (a := mb) (lv' := [(4, .int (ii (mb + 1))), (9, .int (ii (nx (qu fi) (gm1 k1)))), (8, .int (ii 0)), (7, .int (ii z143)), (6, .int (ii k1)), (3, .int (ii y95_0)), (5, .int (ii (qu fi))), (2, .int (ii (cdv (F 6) (F 7)))), (0, .ref (am 0)), (1, .int (ii 1))]) hx hb dX12_seek_352 hl (k := 4) rfl (by decide) rfl (fun ls hl => ?_)
                                  exact J236 (mb + 1) (ug lb (nx (qu fi) (gm1 k1)) (lb (qu fi) + z143)) (ug mf nb (mf nb)) (nb + 0) (ug qv ((y95_0 + mb) % 4500) (nx (qu fi) (gm1 k1))) (ug qb (nx (qu fi) (gm1 k1)) 1) (by have h := relO_n (hSKb) hic hlcb ⟨gm1 k1, hleg, hval, .inl rfl⟩ hnx (by omega) (by omega) c236 (by omega); rw [if_neg c257, if_neg c257] at h; rw [ug_same (g := mf) (k := nb) rfl, Int.add_zero]; exact h) H locs hP hD hS ls (lv_sub hl [1, 2, 3, 4, 0, 5, 6, 7, 8, 9] rfl)
                              · exfalso
                                exact absurd c290 c257
                            · refine lv_iload hx hb dX12_seek_260 (lv_at hl 0 rfl) ?_
                              refine lv_goto (tgt := 274) hx hb dX12_seek_262 (by decide) ?_
                              refine li_iast (g := mf) (W2 := wM am ty τ (up (up (up (up (up (up (up (up (up ρ 29 gm1) 30 (sc (nm1))) 31 lb) 33 (sc (nb))) 34 qv) 35 qb) 27 (dcw (qu fi) (mvw ((gm1 k1) / 1000 % 10) ((gm1 k1) % 10) wU))) 28 (dcq (qu fi) ((mvq ((gm1 k1) / 10000) ((gm1 k1) / 100 % 10) ((gm1 k1) % 10) qU)))) 32 (ug mf nb (nx (qu fi) (gm1 k1)))) ++ cs) hx hb hK hP hD hS 20 0 (aM_20 _ _ _ _ _) rfl (by omega) (by omega) (by decide) rfl dX12_seek_274 (fun H locs hP hD hS => ?_)
                              refine lv_aload_n hx hb dX12_seek_275 rfl (lv_at hl 8 rfl) ?_
                              refine lv_dup hx hb dX12_seek_276 rfl ?_
                              refine va_get (D := G) (ci := 11) (v := .int (ii nb)) (C := RX12) (T := TX12) (N := 52) hx hb hts in_X12 hown hK hP 0 (aM_0 _ _ _ _ _) rfl 33 (by decide) (hts _ q1298) (fun _ h9 => h9) rfl dX12_seek_277 ?_
                              refine lv_aload_n hx hb dX12_seek_280 rfl (lv_at hl 8 rfl) ?_
                              refine va_get (D := G) (ci := 11) (v := .ref (am 19)) (C := RX12) (T := TX12) (N := 52) hx hb hts in_X12 hown hK hP 0 (aM_0 _ _ _ _ _) rfl 31 (by decide) (hts _ q1296) (fun _ h9 => h9) rfl dX12_seek_281 ?_
                              refine lv_iload hx hb dX12_seek_284 (lv_at hl 0 rfl) ?_
                              refine li_iald (g := lb) hx hb hK hP 19 0 (aM_19 _ _ _ _ _) rfl (by omega) (by omega) (by decide) dX12_seek_286 ?_
                              refine lv_ldcw (v := ii 1000000000) hx hb hown (hts _ q1598) dX12_seek_287 ?_
                              refine li_icmp_ne (tgt := 297) hx hb ⟨by omega, by omega⟩ ⟨by decide, by decide⟩ dX12_seek_290 (by decide) (fun c290 => ?_) (fun c290 => ?_)
                              · exfalso
                                exact absurd c257 c290
                              · refine li_iconst hx hb dX12_seek_293 ?_
                                refine lv_goto (tgt := 298) hx hb dX12_seek_294 (by decide) ?_
                                refine li_add hx hb dX12_seek_298 ?_
                                refine va_put (D := G) (ci := 11) (v := .int (ii (nb + 1))) (ty := .int) (C := RX12) (T := TX12) (N := 52) hx hb hts in_X12 tyX12 tyX12_ok nmX12 hown hK hP hD hS 0 (aM_0 _ _ _ _ _) rfl 33 (by decide) (hts _ q1298) (fun _ h9 => h9) rfl (tyX12_ok 33 (by decide)) rfl rfl (Nat.le_of_ble_eq_true rfl) dX12_seek_299 (fun H locs hP hD hS => ?_)
                                have hP : va_P G gcl (wM am ty τ (up (up (up (up (up (up (up (up (up ρ 29 gm1) 30 (sc (nm1))) 31 lb) 34 qv) 35 qb) 27 (dcw (qu fi) (mvw ((gm1 k1) / 1000 % 10) ((gm1 k1) % 10) wU))) 28 (dcq (qu fi) ((mvq ((gm1 k1) / 10000) ((gm1 k1) / 100 % 10) ((gm1 k1) % 10) qU)))) 32 (ug mf nb (nx (qu fi) (gm1 k1)))) 33 (sc (nb + 1))) ++ cs) H := hP
                                have hD : va_D A (wM am ty τ (up (up (up (up (up (up (up (up (up ρ 29 gm1) 30 (sc (nm1))) 31 lb) 34 qv) 35 qb) 27 (dcw (qu fi) (mvw ((gm1 k1) / 1000 % 10) ((gm1 k1) % 10) wU))) 28 (dcq (qu fi) ((mvq ((gm1 k1) / 10000) ((gm1 k1) / 100 % 10) ((gm1 k1) % 10) qU)))) 32 (ug mf nb (nx (qu fi) (gm1 k1)))) 33 (sc (nb + 1))) ++ cs) := hD
                                refine lv_aload_n hx hb dX12_seek_302 rfl (lv_at hl 8 rfl) ?_
                                refine va_get (D := G) (ci := 11) (v := .ref (am 19)) (C := RX12) (T := TX12) (N := 52) hx hb hts in_X12 hown hK hP 0 (aM_0 _ _ _ _ _) rfl 31 (by decide) (hts _ q1296) (fun _ h9 => h9) rfl dX12_seek_303 ?_
                                refine lv_iload hx hb dX12_seek_306 (lv_at hl 0 rfl) ?_
                                refine lv_aload_n hx hb dX12_seek_308 rfl (lv_at hl 8 rfl) ?_
                                refine va_get (D := G) (ci := 11) (v := .ref (am 19)) (C := RX12) (T := TX12) (N := 52) hx hb hts in_X12 hown hK hP 0 (aM_0 _ _ _ _ _) rfl 31 (by decide) (hts _ q1296) (fun _ h9 => h9) rfl dX12_seek_309 ?_
                                refine lv_iload hx hb dX12_seek_312 (lv_at hl 6 rfl) ?_
                                refine li_iald (g := lb) hx hb hK hP 19 0 (aM_19 _ _ _ _ _) rfl (by omega) (by omega) (by decide) dX12_seek_314 ?_
                                refine lv_iload hx hb dX12_seek_315 (lv_at hl 2 rfl) ?_
                                refine li_add hx hb dX12_seek_317 ?_
                                refine li_iast (g := lb) (W2 := wM am ty τ (up (up (up (up (up (up (up (up (up ρ 29 gm1) 30 (sc (nm1))) 34 qv) 35 qb) 27 (dcw (qu fi) (mvw ((gm1 k1) / 1000 % 10) ((gm1 k1) % 10) wU))) 28 (dcq (qu fi) ((mvq ((gm1 k1) / 10000) ((gm1 k1) / 100 % 10) ((gm1 k1) % 10) qU)))) 32 (ug mf nb (nx (qu fi) (gm1 k1)))) 33 (sc (nb + 1))) 31 (ug lb (nx (qu fi) (gm1 k1)) (lb (qu fi) + z143))) ++ cs) hx hb hK hP hD hS 19 0 (aM_19 _ _ _ _ _) rfl (by omega) (by omega) (by decide) rfl dX12_seek_318 (fun H locs hP hD hS => ?_)
                                refine lv_aload_n hx hb dX12_seek_319 rfl (lv_at hl 8 rfl) ?_
                                refine va_get (D := G) (ci := 11) (v := .ref (am 22)) (C := RX12) (T := TX12) (N := 52) hx hb hts in_X12 hown hK hP 0 (aM_0 _ _ _ _ _) rfl 35 (by decide) (hts _ q1300) (fun _ h9 => h9) rfl dX12_seek_320 ?_
                                refine lv_iload hx hb dX12_seek_323 (lv_at hl 0 rfl) ?_
                                refine li_zald (g := qb) hx hb hK hP 22 1 (aM_22 _ _ _ _ _) rfl (by omega) (by omega) (by decide) dX12_seek_325 ?_
                                refine li_if_ne (tgt := 355) hx hb ⟨by omega, by omega⟩ dX12_seek_326 (by decide) (fun c326 => ?_) (fun c326 => ?_)
                                · exact J236 mb (ug lb (nx (qu fi) (gm1 k1)) (lb (qu fi) + z143)) (ug mf nb (nx (qu fi) (gm1 k1))) (nb + 1) qv qb (by have h := relO_q (hSKb) hic hlcb ⟨gm1 k1, hleg, hval, .inl rfl⟩ hnx (by omega) (by omega) c236 (by omega); rw [if_pos c257, if_pos c257] at h; exact h) H locs hP hD hS ls (lv_sub hl [0, 1, 2, 3, 4, 5, 6, 7, 8, 9] rfl)
                                · refine lv_aload_n hx hb dX12_seek_329 rfl (lv_at hl 8 rfl) ?_
                                  refine va_get (D := G) (ci := 11) (v := .ref (am 22)) (C := RX12) (T := TX12) (N := 52) hx hb hts in_X12 hown hK hP 0 (aM_0 _ _ _ _ _) rfl 35 (by decide) (hts _ q1300) (fun _ h9 => h9) rfl dX12_seek_330 ?_
                                  refine lv_iload hx hb dX12_seek_333 (lv_at hl 0 rfl) ?_
                                  refine li_iconst hx hb dX12_seek_335 ?_
                                  refine li_zast (g := qb) (W2 := wM am ty τ (up (up (up (up (up (up (up (up (up ρ 29 gm1) 30 (sc (nm1))) 34 qv) 27 (dcw (qu fi) (mvw ((gm1 k1) / 1000 % 10) ((gm1 k1) % 10) wU))) 28 (dcq (qu fi) ((mvq ((gm1 k1) / 10000) ((gm1 k1) / 100 % 10) ((gm1 k1) % 10) qU)))) 32 (ug mf nb (nx (qu fi) (gm1 k1)))) 33 (sc (nb + 1))) 31 (ug lb (nx (qu fi) (gm1 k1)) (lb (qu fi) + z143))) 35 (ug qb (nx (qu fi) (gm1 k1)) 1)) ++ cs) hx hb hK hP hD hS 22 1 (aM_22 _ _ _ _ _) rfl (by omega) (by omega) (by decide) (by omega) rfl dX12_seek_336 (fun H locs hP hD hS => ?_)
                                  refine lv_aload_n hx hb dX12_seek_337 rfl (lv_at hl 8 rfl) ?_
                                  refine va_get (D := G) (ci := 11) (v := .ref (am 21)) (C := RX12) (T := TX12) (N := 52) hx hb hts in_X12 hown hK hP 0 (aM_0 _ _ _ _ _) rfl 34 (by decide) (hts _ q1299) (fun _ h9 => h9) rfl dX12_seek_338 ?_
                                  refine lv_iload_n hx hb dX12_seek_341 rfl (lv_at hl 5 rfl) ?_
                                  refine lv_iload hx hb dX12_seek_342 (lv_at hl 4 rfl) ?_
                                  refine li_add hx hb dX12_seek_344 ?_
                                  refine li_sipush hx hb dX12_seek_345 (by decide) ?_
                                  refine li_rem hx hb (by omega) (by omega) (by omega) (by omega) dX12_seek_348 ?_
                                  refine lv_iload hx hb dX12_seek_349 (lv_at hl 0 rfl) ?_
                                  refine li_iast (g := qv) (W2 := wM am ty τ (up (up (up (up (up (up (up (up (up ρ 29 gm1) 30 (sc (nm1))) 27 (dcw (qu fi) (mvw ((gm1 k1) / 1000 % 10) ((gm1 k1) % 10) wU))) 28 (dcq (qu fi) ((mvq ((gm1 k1) / 10000) ((gm1 k1) / 100 % 10) ((gm1 k1) % 10) qU)))) 32 (ug mf nb (nx (qu fi) (gm1 k1)))) 33 (sc (nb + 1))) 31 (ug lb (nx (qu fi) (gm1 k1)) (lb (qu fi) + z143))) 35 (ug qb (nx (qu fi) (gm1 k1)) 1)) 34 (ug qv ((y95_0 + mb) % 4500) (nx (qu fi) (gm1 k1)))) ++ cs) hx hb hK hP hD hS 21 0 (aM_21 _ _ _ _ _) rfl (by omega) (by omega) (by decide) rfl dX12_seek_351 (fun H locs hP hD hS => ?_)
                                  refine li_iinc (a := mb) (lv' := [(4, .int (ii (mb + 1))), (9, .int (ii (nx (qu fi) (gm1 k1)))), (8, .int (ii 0)), (7, .int (ii z143)), (6, .int (ii k1)), (3, .int (ii y95_0)), (5, .int (ii (qu fi))), (2, .int (ii (cdv (F 6) (F 7)))), (0, .ref (am 0)), (1, .int (ii 1))]) hx hb dX12_seek_352 hl (k := 4) rfl (by decide) rfl (fun ls hl => ?_)
                                  exact J236 (mb + 1) (ug lb (nx (qu fi) (gm1 k1)) (lb (qu fi) + z143)) (ug mf nb (nx (qu fi) (gm1 k1))) (nb + 1) (ug qv ((y95_0 + mb) % 4500) (nx (qu fi) (gm1 k1))) (ug qb (nx (qu fi) (gm1 k1)) 1) (by have h := relO_n (hSKb) hic hlcb ⟨gm1 k1, hleg, hval, .inl rfl⟩ hnx (by omega) (by omega) c236 (by omega); rw [if_pos c257, if_pos c257] at h; exact h) H locs hP hD hS ls (lv_sub hl [1, 2, 3, 4, 0, 5, 6, 7, 8, 9] rfl)
                        · exact absurd c196 (by decide)
                  refine li_if_eq (tgt := 176) hx hb ⟨by decide, by decide⟩ dX12_seek_154 (by decide) (fun c154 => ?_) (fun c154 => ?_)
                  · exact absurd c154 (by decide)
                  · refine lv_aload_n hx hb dX12_seek_157 rfl (lv_at hl 7 rfl) ?_
                    refine va_get (D := G) (ci := 11) (v := .ref (am 18)) (C := RX12) (T := TX12) (N := 52) hx hb hts in_X12 hown hK hP 0 (aM_0 _ _ _ _ _) rfl 29 (by decide) (hts _ q1294) (fun _ h9 => h9) rfl dX12_seek_158 ?_
                    refine lv_iload hx hb dX12_seek_161 (lv_at hl 2 rfl) ?_
                    refine li_iald (g := gm1) hx hb hK hP 18 0 (aM_18 _ _ _ _ _) rfl (by omega) (by omega) (by decide) dX12_seek_163 ?_
                    refine li_sipush hx hb dX12_seek_164 (by decide) ?_
                    refine li_div hx hb (by omega) (by omega) (by omega) (by omega) dX12_seek_167 ?_
                    refine li_iconst hx hb dX12_seek_168 ?_
                    refine li_icmp_ne (tgt := 176) hx hb ⟨by omega, by omega⟩ ⟨by decide, by decide⟩ dX12_seek_169 (by decide) (fun c169 => ?_) (fun c169 => ?_)
                    · refine li_iconst hx hb dX12_seek_176 ?_
                      exact J154 1 (by omega) H locs hP hD hS ls (lv_sub hl [0, 1, 2, 3, 4, 5, 6, 7, 8] rfl)
                    · refine li_iconst hx hb dX12_seek_172 ?_
                      refine lv_goto (tgt := 177) hx hb dX12_seek_173 (by decide) ?_
                      exact J154 2 (by omega) H locs hP hD hS ls (lv_sub hl [0, 1, 2, 3, 4, 5, 6, 7, 8] rfl)
            exact L126 _ 0 (ma + (-1)) (dcw (qu fi) wT) (dcq (qu fi) qT) la me n8 qu (ug qd (qu fi) 0) (hS1) (hal120) (by omega) (by omega) (hSKp) (hlc) (seenI_0 _ cand_n) (by omega) (Nat.lt_succ_self _) H locs hP hD hS ls (lv_sub hl [0, 1, 2, 3, 4, 5, 6] rfl)
          refine li_icmp_ne (tgt := 102) hx hb ⟨by omega, by omega⟩ ⟨by decide, by decide⟩ dX12_seek_95 (by decide) (fun c95 => ?_) (fun c95 => ?_)
          · refine lv_iload_n hx hb dX12_seek_102 rfl (lv_at hl 2 rfl) ?_
            refine li_iconst hx hb dX12_seek_103 ?_
            refine li_add hx hb dX12_seek_104 ?_
            exact J95 (fi + 1) (by omega) H locs hP hD hS ls (lv_sub hl [0, 1, 2, 3, 4, 5] rfl)
          · refine li_iconst hx hb dX12_seek_98 ?_
            refine lv_goto (tgt := 105) hx hb dX12_seek_99 (by decide) ?_
            exact J95 0 (by omega) H locs hP hD hS ls (lv_sub hl [0, 1, 2, 3, 4, 5] rfl)
    exact L78 _ 1 0 (ρ 27) (ρ 28) (ug la0 (cdv (F 6) (F 7)) 0) (ug (ρ 32) 0 (cdv (F 6) (F 7))) 1 (ug (ρ 34) 0 (cdv (F 6) (F 7))) (ug qd0 (cdv (F 6) (F 7)) 1) (hSt) (SK.start _ hst hla hqa) (Nat.lt_succ_self _) H locs hP hD hS ls (lv_sub hl [0, 1, 2, 3, 4] rfl)
  have L6 : ∀ (n : Nat) (i1 : Int) (la0 : Int → Int) (qd0 : Int → Int) (_ : 0 ≤ i1) (_ : i1 ≤ 4500) (_ : ∀ c, 0 ≤ c → c < i1 → la0 c = FARc) (_ : ∀ c, 0 ≤ c → c < i1 → qd0 c = 0) (_ : (4500 - i1).toNat < n) (H : Heap) (locs : List Loc) (_ : va_P G gcl (wM am ty τ (up (up (up (up ρ 29 gm1) 30 (sc (nm1))) 31 la0) 35 qd0) ++ cs) H) (_ : va_D A (wM am ty τ (up (up (up (up ρ 29 gm1) 30 (sc (nm1))) 31 la0) 35 qd0) ++ cs)) (_ : va_S A s.heap H locs) (ls : Array Slot), lv_has ls 10 [(2, .int (ii i1)), (0, .ref (am 0)), (1, .int (ii 1))] → W p l e (rm4 3 0 0 81) s m args below meth c H locs 0 0 Q (F0 m 6 ls []) := by
    intro n
    induction n with
    | zero =>
      intro i1 la0 qd0 hi0 hi1 hla hqa hm
      exact absurd hm (Nat.not_lt_zero _)
    | succ n ih =>
      intro i1 la0 qd0 hi0 hi1 hla hqa hm H locs hP hD hS ls hl
      refine lv_iload_n hx hb dX12_seek_6 rfl (lv_at hl 0 rfl) ?_
      refine li_sipush hx hb dX12_seek_7 (by decide) ?_
      refine li_icmp_ge (tgt := 35) hx hb ⟨by omega, by omega⟩ ⟨by decide, by decide⟩ dX12_seek_10 (by decide) (fun c10 => ?_) (fun c10 => ?_)
      · exact X6 i1 la0 qd0 (fun c h => hla c h.1 (Int.lt_of_lt_of_le h.2 c10)) (fun c h => hqa c h.1 (Int.lt_of_lt_of_le h.2 c10)) H locs hP hD hS ls (lv_sub hl [1, 2] rfl)
      · refine lv_aload_n hx hb dX12_seek_13 rfl (lv_at hl 1 rfl) ?_
        refine va_get (D := G) (ci := 11) (v := .ref (am 19)) (C := RX12) (T := TX12) (N := 52) hx hb hts in_X12 hown hK hP 0 (aM_0 _ _ _ _ _) rfl 31 (by decide) (hts _ q1296) (fun _ h9 => h9) rfl dX12_seek_14 ?_
        refine lv_iload_n hx hb dX12_seek_17 rfl (lv_at hl 0 rfl) ?_
        refine lv_ldcw (v := ii 1000000000) hx hb hown (hts _ q1598) dX12_seek_18 ?_
        refine li_iast (g := la0) (W2 := wM am ty τ (up (up (up (up ρ 29 gm1) 30 (sc (nm1))) 35 qd0) 31 (ug la0 i1 1000000000)) ++ cs) hx hb hK hP hD hS 19 0 (aM_19 _ _ _ _ _) rfl (by omega) (by omega) (by decide) rfl dX12_seek_21 (fun H locs hP hD hS => ?_)
        refine lv_aload_n hx hb dX12_seek_22 rfl (lv_at hl 1 rfl) ?_
        refine va_get (D := G) (ci := 11) (v := .ref (am 22)) (C := RX12) (T := TX12) (N := 52) hx hb hts in_X12 hown hK hP 0 (aM_0 _ _ _ _ _) rfl 35 (by decide) (hts _ q1300) (fun _ h9 => h9) rfl dX12_seek_23 ?_
        refine lv_iload_n hx hb dX12_seek_26 rfl (lv_at hl 0 rfl) ?_
        refine li_iconst hx hb dX12_seek_27 ?_
        refine li_zast (g := qd0) (W2 := wM am ty τ (up (up (up (up ρ 29 gm1) 30 (sc (nm1))) 31 (ug la0 i1 1000000000)) 35 (ug qd0 i1 0)) ++ cs) hx hb hK hP hD hS 22 1 (aM_22 _ _ _ _ _) rfl (by omega) (by omega) (by decide) (by omega) rfl dX12_seek_28 (fun H locs hP hD hS => ?_)
        refine li_iinc (a := i1) (lv' := [(2, .int (ii (i1 + 1))), (0, .ref (am 0)), (1, .int (ii 1))]) hx hb dX12_seek_29 hl (k := 0) rfl (by decide) rfl (fun ls hl => ?_)
        refine lv_goto (tgt := 6) hx hb dX12_seek_32 (by decide) ?_
        exact ih (i1 + 1) (ug la0 i1 1000000000) (ug qd0 i1 0) (by omega) (by omega) (ini_s hla) (ini_s hqa) (by omega) H locs hP hD hS ls (lv_sub hl [0, 1, 2] rfl)
  exact L6 _ 0 (ρ 31) (ρ 35) (by omega) (by omega) (fun c a b => by omega) (fun c a b => by omega) (Nat.lt_succ_self _) H locs hP hD hS ls (lv_sub hl [0, 1, 2] rfl)
