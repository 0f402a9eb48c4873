/-! feet (written by gen/m7.py) -/
set_option maxRecDepth 100000
theorem feet_lo {F : mem} {s r lo x : Int} (hs : inSt s) (hW : wfF F) (h : lo = 0 ∨ ¬ LD F s r lo) (h1 : 1 ≤ x) (h2 : x ≤ lo) (h3 : lo ≤ 400) : ¬ LD F s r x := fun q => by
  rcases h with h | h
  · omega
  · exact h (LD_mono hs (lenF_wf hW (by omega)) h2 q)
set_option maxHeartbeats 4000000 in
theorem m_feetM (l : Launch) (G : va_G) (am : Nat → Nat) (ty : Nat → ClassId) (τ ρ : mem) (cs : va_W) (r1 : Int) (F : mem) (hF : okF F) (hSm : Sim F τ) (hSt : wfS (ρ 27) (ρ 28)) (hZ : zerF F) (hci : CIx F (ρ 36 0) (ρ 37 0) (ρ 31) (ρ 32) (ρ 33 0) (ρ 29) (ρ 30 0) (ρ 39)) (hrr : rg r1) : cM l yX12_feet (ws_ yX12_feet cX12_feet 6 (some .int)) (rm4 7 0 0 173) G ty (wM am ty τ ρ ++ cs) [.ref (am 0), .int (ii r1)] 0 0 (fun r W' => ∃ (z : Int) (wT : Int → Int) (qT : Int → Int) (gm : Int → Int) (nm : Int) (la : Int → Int) (me : Int → Int) (n8 : Int) (qu : Int → Int) (qd : Int → Int) (is : Int) (il : Int), r = some (.int (ii z)) ∧ W' = wM am ty τ (up (up (up (up (up (up (up (up (up (up (up (up ρ 14 (sc (0))) 27 wT) 28 qT) 29 gm) 30 (sc (nm))) 31 la) 32 me) 33 (sc (n8))) 34 qu) 35 qd) 36 (sc (is))) 37 (sc (il))) ++ cs ∧ (wfS wT qT) ∧ (CIx F is il la me n8 gm nm (ρ 39)) ∧ ((¬ (0 ≤ r1 ∧ r1 < F 10 0) ∧ z = -1) ∨ ((0 ≤ r1 ∧ r1 < F 10 0) ∧ IsFeet F (cdv (F 6) (F 7)) r1 z))) := by
  refine cM.of (by decide) (Nat.le_of_ble_eq_true rfl) ?_
  intro p e s m args below meth c A Q H locs hQ hx hb hr hml hown hlk hname hts hK hP hD hS hA hX ls hl
  have hl : lv_has ls 6 [(0, .ref (am 0)), (1, .int (ii r1))] := hl
  obtain ⟨hW, hWS, hlg⟩ := id hF
  obtain ⟨hw0, hw1, hw2, hw3, hw4, hw5, h8a, h8b, h9a, h9b, h10a, h10b⟩ := id hW
  obtain ⟨mL, mP, mR, mC, mK, mM, mA, mB, mD⟩ := id hSm
  obtain ⟨hra, hrb⟩ := id hrr
  have hst0 := (cdv_dig hWS.1 hWS.2).1
  refine lv_aload_n hx hb dX12_feet_0 rfl (lv_at hl 0 rfl) ?_
  refine li_iconst hx hb dX12_feet_1 ?_
  refine va_put (D := G) (ci := 11) (v := .int (ii 0)) (ty := .int) (C := RX12) (T := TX12) (N := 52) hx hb hts in_X12 tyX12 tyX12_ok nmX12 hown hK hP hD hS 0 (aM_0 _ _ _ _ _) rfl 14 (by decide) (hts _ q1279) (fun _ h9 => h9) rfl (tyX12_ok 14 (by decide)) rfl rfl (Nat.le_of_ble_eq_true rfl) dX12_feet_2 (fun H locs hP hD hS => ?_)
  have hP : va_P G gcl (wM am ty τ (up ρ 14 (sc (0))) ++ cs) H := hP
  have hD : va_D A (wM am ty τ (up ρ 14 (sc (0))) ++ cs) := hD
  refine lv_iload_n hx hb dX12_feet_5 rfl (lv_at hl 1 rfl) ?_
  refine lv_i2l (v := ll r1) hx hb dX12_feet_6 (ll_i ⟨by omega, by omega⟩) ?_
  refine lv_lconst (v := ll 0) hx hb dX12_feet_7 (by decide) ?_
  refine lv_aload_n hx hb dX12_feet_8 rfl (lv_at hl 0 rfl) ?_
  refine va_get (D := G) (ci := 11) (v := .int (ii (τ 7 0))) (C := RX12) (T := TX12) (N := 52) hx hb hts in_X12 hown hK hP 0 (aM_0 _ _ _ _ _) rfl 7 (by decide) (hts _ q1272) (fun _ h9 => h9) rfl dX12_feet_9 ?_
  refine li_iconst hx hb dX12_feet_12 ?_
  refine li_sub hx hb dX12_feet_13 ?_
  refine lv_i2l (v := ll (τ 7 0 - 1)) hx hb dX12_feet_14 (ll_i ⟨by omega, by omega⟩) ?_
  refine kR (va_runS (As := [.long (ll (r1)), .long (ll (0)), .long (ll (τ 7 0 - 1))]) (rest := []) ⟨hx, hb, hml, hown, hts⟩ (m_inM l G ty (wM am ty τ (up ρ 14 (sc (0))) ++ cs) r1 0 (τ 7 0 - 1) (rg_rl hrr) ⟨by decide, by decide⟩ ⟨by omega, by omega⟩) (va_cwS 3 hts (lw_S q1436 q1437 q87 q1438) rfl rfl rfl (by decide +kernel) ⟨Nat.le_of_ble_eq_true rfl, Nat.le_of_ble_eq_true rfl⟩) (psR hK hP hD hX) rfl rfl hl.1 rfl (lv_room (Nat.le_of_ble_eq_true rfl)) dX12_feet_15 ⟨Nat.le_of_ble_eq_true rfl, Nat.le_of_ble_eq_true rfl⟩) (fun v hv => ?_)
  obtain ⟨z15, rfl, ⟨rfl, h15⟩ | ⟨rfl, h15⟩⟩ := hv
  · refine li_if_ne (tgt := 23) hx hb ⟨by decide, by decide⟩ dX12_feet_18 (by decide) (fun c18 => ?_) (fun c18 => ?_)
    · refine lv_aload_n hx hb dX12_feet_23 rfl (lv_at hl 0 rfl) ?_
      refine va_get (D := G) (ci := 11) (v := .ref (am 6)) (C := RX12) (T := TX12) (N := 52) hx hb hts in_X12 hown hK hP 0 (aM_0 _ _ _ _ _) rfl 8 (by decide) (hts _ q1273) (fun _ h9 => h9) rfl dX12_feet_24 ?_
      refine lv_iload_n hx hb dX12_feet_27 rfl (lv_at hl 1 rfl) ?_
      refine li_iald (g := (τ 8)) hx hb hK hP 6 0 (aM_6 _ _ _ _ _) rfl (by omega) (by omega) (by decide) dX12_feet_28 ?_
      refine lv_istore_n (lv' := [(2, .int (ii (τ 8 r1))), (0, .ref (am 0)), (1, .int (ii r1))]) hx hb dX12_feet_29 rfl hl (by decide) rfl (fun ls hl => ?_)
      refine li_iconst hx hb dX12_feet_30 ?_
      refine lv_istore_n (lv' := [(3, .int (ii 0)), (2, .int (ii (τ 8 r1))), (0, .ref (am 0)), (1, .int (ii r1))]) hx hb dX12_feet_31 rfl hl (by decide) rfl (fun ls hl => ?_)
      refine li_sipush hx hb dX12_feet_32 (by decide) ?_
      refine lv_istore (lv' := [(4, .int (ii 400)), (3, .int (ii 0)), (2, .int (ii (τ 8 r1))), (0, .ref (am 0)), (1, .int (ii r1))]) hx hb dX12_feet_35 hl (by decide) rfl (fun ls hl => ?_)
      refine lv_aload_n hx hb dX12_feet_37 rfl (lv_at hl 3 rfl) ?_
      refine va_get (D := G) (ci := 11) (v := .ref (am 6)) (C := RX12) (T := TX12) (N := 52) hx hb hts in_X12 hown hK hP 0 (aM_0 _ _ _ _ _) rfl 8 (by decide) (hts _ q1273) (fun _ h9 => h9) rfl dX12_feet_38 ?_
      refine lv_iload_n hx hb dX12_feet_41 rfl (lv_at hl 4 rfl) ?_
      refine li_sipush hx hb dX12_feet_42 (by decide) ?_
      refine li_iast (g := (τ 8)) (W2 := wM am ty (up τ 8 (ug (τ 8) r1 400)) (up ρ 14 (sc (0))) ++ cs) hx hb hK hP hD hS 6 0 (aM_6 _ _ _ _ _) rfl (by omega) (by omega) (by decide) rfl dX12_feet_45 (fun H locs hP hD hS => ?_)
      refine lv_aload_n hx hb dX12_feet_46 rfl (lv_at hl 3 rfl) ?_
      refine kM (va_runV (As := []) (rest := []) ⟨hx, hb, hml, hown, hts⟩ ((m_hasWayM l G am ty (up τ 8 (ug (τ 8) r1 400)) (up ρ 14 (sc (0))) cs (lenF F r1 400) (show okF (lenF F r1 400) from lenF_ok hF (by decide)) (show Sim (lenF F r1 400) (up τ 8 (ug (τ 8) r1 400)) from Sim_len hSm) (show wfS (ρ 27) (ρ 28) from hSt) (show zerF (lenF F r1 400) from hZ) (show (ρ 37 0) = 0 ∨ (ρ 37 0) = 1 from hci.2.1)) H.size) (cwV 0 hts (lw_V q1665 q1667 qs70 q87 q1668) rfl rfl rfl (by decide +kernel) ⟨Nat.le_of_ble_eq_true rfl, Nat.le_of_ble_eq_true rfl⟩) (pvM (r := (RX12, TX12, 52)) hK hP hD hX 0 (aM_0 _ _ _ _ _) rfl) rfl rfl hl.1 rfl (lv_room (Nat.le_of_ble_eq_true rfl)) dX12_feet_47 ⟨Nat.le_of_ble_eq_true rfl, Nat.le_of_ble_eq_true rfl⟩) hD hS hA (fun v ws1 H locs hv hP hD hS => ?_)
      obtain ⟨z47, wT47, qT47, gm47, nm47, la47, me47, n847, qu47, qd47, is47, il47, rfl, rfl, hSt47, hil47, ⟨rfl, hb47⟩ | ⟨rfl, hb47⟩⟩ := hv
      · have hP : va_P G gcl (wM am ty (up τ 8 (ug (τ 8) r1 400)) (up (up (up (up (up (up (up (up (up (up (up (up ρ 14 (sc (0))) 27 wT47) 28 qT47) 29 gm47) 30 (sc (nm47))) 31 la47) 32 me47) 33 (sc (n847))) 34 qu47) 35 qd47) 36 (sc (is47))) 37 (sc (il47))) ++ cs) H := hP
        have hD : va_D A (wM am ty (up τ 8 (ug (τ 8) r1 400)) (up (up (up (up (up (up (up (up (up (up (up (up ρ 14 (sc (0))) 27 wT47) 28 qT47) 29 gm47) 30 (sc (nm47))) 31 la47) 32 me47) 33 (sc (n847))) 34 qu47) 35 qd47) 36 (sc (is47))) 37 (sc (il47))) ++ cs) := hD
        have hSt47 : wfS wT47 qT47 := hSt47
        have hil47 : il47 = 0 ∨ il47 = 1 := hil47
        have hb47 : ∃ z, IsSoon (lenF F r1 400) (cdv ((lenF F r1 400) 6) ((lenF F r1 400) 7)) z ∧ ¬ z = -4 := hb47
        have hLD1 : LD F (cdv (F 6) (F 7)) r1 400 := by obtain ⟨z, a, b⟩ := hb47; exact LD_of (lenF_wf hW (by decide)) a b
        refine lv_istore (lv' := [(5, .int (ii 1)), (4, .int (ii 400)), (3, .int (ii 0)), (2, .int (ii (τ 8 r1))), (0, .ref (am 0)), (1, .int (ii r1))]) hx hb dX12_feet_50 hl (by decide) rfl (fun ls hl => ?_)
        have L52 : ∀ (n : Nat) (w5 : Int) (hi : Int) (lo : Int) (g8 : Int → Int) (wT : Int → Int) (qT : Int → Int) (gm : Int → Int) (nm : Int) (la : Int → Int) (me : Int → Int) (n8 : Int) (qu : Int → Int) (qd : Int → Int) (is : Int) (il : Int) (x0 : Int) (_ : g8 = ug (τ 8) r1 x0) (_ : wfS wT qT) (_ : il = 0 ∨ il = 1) (_ : 0 ≤ lo) (_ : lo < hi) (_ : hi ≤ 400) (_ : (w5 = 1 ∧ LD F (cdv (F 6) (F 7)) r1 400) ∨ (w5 = 0 ∧ ¬ LD F (cdv (F 6) (F 7)) r1 400)) (_ : ¬ w5 = 0 → LD F (cdv (F 6) (F 7)) r1 hi) (_ : lo = 0 ∨ ¬ LD F (cdv (F 6) (F 7)) r1 lo) (_ : (hi - lo).toNat < n) (H : Heap) (locs : List Loc) (_ : va_P G gcl (wM am ty (up τ 8 g8) (up (up (up (up (up (up (up (up (up (up (up (up ρ 14 (sc (0))) 27 wT) 28 qT) 29 gm) 30 (sc (nm))) 31 la) 32 me) 33 (sc (n8))) 34 qu) 35 qd) 36 (sc (is))) 37 (sc (il))) ++ cs) H) (_ : va_D A (wM am ty (up τ 8 g8) (up (up (up (up (up (up (up (up (up (up (up (up ρ 14 (sc (0))) 27 wT) 28 qT) 29 gm) 30 (sc (nm))) 31 la) 32 me) 33 (sc (n8))) 34 qu) 35 qd) 36 (sc (is))) 37 (sc (il))) ++ cs)) (_ : va_S A s.heap H locs) (ls : Array Slot), lv_has ls 6 [(5, .int (ii w5)), (4, .int (ii hi)), (3, .int (ii lo)), (2, .int (ii (τ 8 r1))), (0, .ref (am 0)), (1, .int (ii r1))] → W p l e (rm4 7 0 0 173) s m args below meth c H locs 0 0 Q (F0 m 52 ls []) := by
          intro n
          induction n with
          | zero =>
            intro w5 hi lo g8 wT qT gm nm la me n8 qu qd is il x0 hg8 hSt hil hb0 hb1 hb2 hw5 hhi hlo hm
            exact absurd hm (Nat.not_lt_zero _)
          | succ n ih =>
            intro w5 hi lo g8 wT qT gm nm la me n8 qu qd is il x0 hg8 hSt hil hb0 hb1 hb2 hw5 hhi hlo hm H locs hP hD hS ls hl
            refine lv_iload hx hb dX12_feet_52 (lv_at hl 0 rfl) ?_
            refine li_if_eq (tgt := 105) hx hb ⟨by omega, by omega⟩ dX12_feet_54 (by decide) (fun c54 => ?_) (fun c54 => ?_)
            · have hno : w5 = 0 → ¬ LD F (cdv (F 6) (F 7)) r1 400 := fun q => (hw5.resolve_left (fun z => by omega)).2
              have hyes : ¬ w5 = 0 → hi - lo ≤ 1 → LD F (cdv (F 6) (F 7)) r1 400 ∧ 1 ≤ hi ∧ hi ≤ 400 ∧ LD F (cdv (F 6) (F 7)) r1 hi ∧ ∀ x, 1 ≤ x → x < hi → ¬ LD F (cdv (F 6) (F 7)) r1 x := fun q q1 => ⟨(hw5.resolve_right (fun z => by omega)).2, by omega, by omega, hhi q, fun x x1 x2 => feet_lo hst0 hW hlo x1 (by omega) (by omega)⟩
              refine lv_aload_n hx hb dX12_feet_105 rfl (lv_at hl 4 rfl) ?_
              refine va_get (D := G) (ci := 11) (v := .ref (am 6)) (C := RX12) (T := TX12) (N := 52) hx hb hts in_X12 hown hK hP 0 (aM_0 _ _ _ _ _) rfl 8 (by decide) (hts _ q1273) (fun _ h9 => h9) rfl dX12_feet_106 ?_
              refine lv_iload_n hx hb dX12_feet_109 rfl (lv_at hl 5 rfl) ?_
              refine lv_iload_n hx hb dX12_feet_110 rfl (lv_at hl 3 rfl) ?_
              refine li_iast (g := g8) (W2 := wM am ty (up τ 8 (ug g8 r1 (τ 8 r1))) (up (up (up (up (up (up (up (up (up (up (up (up ρ 14 (sc (0))) 27 wT) 28 qT) 29 gm) 30 (sc (nm))) 31 la) 32 me) 33 (sc (n8))) 34 qu) 35 qd) 36 (sc (is))) 37 (sc (il))) ++ cs) hx hb hK hP hD hS 6 0 (aM_6 _ _ _ _ _) rfl (by omega) (by omega) (by decide) rfl dX12_feet_111 (fun H locs hP hD hS => ?_)
              have hgs : ug g8 r1 (τ 8 r1) = τ 8 := by rw [hg8, ug_ug]; exact ug_same rfl
              rw [hgs, up_id] at hP hD
              refine lv_aload_n hx hb dX12_feet_112 rfl (lv_at hl 4 rfl) ?_
              refine li_iconst hx hb dX12_feet_113 ?_
              refine va_put (D := G) (ci := 11) (v := .int (ii 0)) (ty := .boolean) (C := RX12) (T := TX12) (N := 52) hx hb hts in_X12 tyX12 tyX12_ok nmX12 hown hK hP hD hS 0 (aM_0 _ _ _ _ _) rfl 36 (by decide) (hts _ q1301) (fun _ h9 => h9) rfl (tyX12_ok 36 (by decide)) (nrw_z (by omega)) (fit_z (by omega)) (Nat.le_of_ble_eq_true rfl) dX12_feet_114 (fun H locs hP hD hS => ?_)
              have hP : va_P G gcl (wM am ty τ (up (up (up (up (up (up (up (up (up (up (up (up ρ 14 (sc (0))) 27 wT) 28 qT) 29 gm) 30 (sc (nm))) 31 la) 32 me) 33 (sc (n8))) 34 qu) 35 qd) 37 (sc (il))) 36 (sc (0))) ++ cs) H := hP
              have hD : va_D A (wM am ty τ (up (up (up (up (up (up (up (up (up (up (up (up ρ 14 (sc (0))) 27 wT) 28 qT) 29 gm) 30 (sc (nm))) 31 la) 32 me) 33 (sc (n8))) 34 qu) 35 qd) 37 (sc (il))) 36 (sc (0))) ++ cs) := hD
              refine lv_iload hx hb dX12_feet_117 (lv_at hl 0 rfl) ?_
              refine li_if_eq (tgt := 127) hx hb ⟨by omega, by omega⟩ dX12_feet_119 (by decide) (fun c119 => ?_) (fun c119 => ?_)
              · refine li_bipush hx hb dX12_feet_127 (by decide) ?_
                exact eMi hQ hx hb hr hlk hP hD hS (Nat.le_of_ble_eq_true rfl) (Nat.le_of_ble_eq_true rfl) dX12_feet_129 (⟨-4, wT, qT, gm, nm, la, me, n8, qu, qd, 0, il, rfl, rfl, hSt, CIx_0 hil, .inr ⟨by omega, .inl ⟨rfl, hno (by omega)⟩⟩⟩)
              · exfalso
                omega
            · refine lv_iload hx hb dX12_feet_57 (lv_at hl 1 rfl) ?_
              refine lv_iload_n hx hb dX12_feet_59 rfl (lv_at hl 2 rfl) ?_
              refine li_sub hx hb dX12_feet_60 ?_
              refine li_iconst hx hb dX12_feet_61 ?_
              refine li_icmp_le (tgt := 105) hx hb ⟨by omega, by omega⟩ ⟨by decide, by decide⟩ dX12_feet_62 (by decide) (fun c62 => ?_) (fun c62 => ?_)
              · have hno : w5 = 0 → ¬ LD F (cdv (F 6) (F 7)) r1 400 := fun q => (hw5.resolve_left (fun z => by omega)).2
                have hyes : ¬ w5 = 0 → hi - lo ≤ 1 → LD F (cdv (F 6) (F 7)) r1 400 ∧ 1 ≤ hi ∧ hi ≤ 400 ∧ LD F (cdv (F 6) (F 7)) r1 hi ∧ ∀ x, 1 ≤ x → x < hi → ¬ LD F (cdv (F 6) (F 7)) r1 x := fun q q1 => ⟨(hw5.resolve_right (fun z => by omega)).2, by omega, by omega, hhi q, fun x x1 x2 => feet_lo hst0 hW hlo x1 (by omega) (by omega)⟩
                refine lv_aload_n hx hb dX12_feet_105 rfl (lv_at hl 4 rfl) ?_
                refine va_get (D := G) (ci := 11) (v := .ref (am 6)) (C := RX12) (T := TX12) (N := 52) hx hb hts in_X12 hown hK hP 0 (aM_0 _ _ _ _ _) rfl 8 (by decide) (hts _ q1273) (fun _ h9 => h9) rfl dX12_feet_106 ?_
                refine lv_iload_n hx hb dX12_feet_109 rfl (lv_at hl 5 rfl) ?_
                refine lv_iload_n hx hb dX12_feet_110 rfl (lv_at hl 3 rfl) ?_
                refine li_iast (g := g8) (W2 := wM am ty (up τ 8 (ug g8 r1 (τ 8 r1))) (up (up (up (up (up (up (up (up (up (up (up (up ρ 14 (sc (0))) 27 wT) 28 qT) 29 gm) 30 (sc (nm))) 31 la) 32 me) 33 (sc (n8))) 34 qu) 35 qd) 36 (sc (is))) 37 (sc (il))) ++ cs) hx hb hK hP hD hS 6 0 (aM_6 _ _ _ _ _) rfl (by omega) (by omega) (by decide) rfl dX12_feet_111 (fun H locs hP hD hS => ?_)
                have hgs : ug g8 r1 (τ 8 r1) = τ 8 := by rw [hg8, ug_ug]; exact ug_same rfl
                rw [hgs, up_id] at hP hD
                refine lv_aload_n hx hb dX12_feet_112 rfl (lv_at hl 4 rfl) ?_
                refine li_iconst hx hb dX12_feet_113 ?_
                refine va_put (D := G) (ci := 11) (v := .int (ii 0)) (ty := .boolean) (C := RX12) (T := TX12) (N := 52) hx hb hts in_X12 tyX12 tyX12_ok nmX12 hown hK hP hD hS 0 (aM_0 _ _ _ _ _) rfl 36 (by decide) (hts _ q1301) (fun _ h9 => h9) rfl (tyX12_ok 36 (by decide)) (nrw_z (by omega)) (fit_z (by omega)) (Nat.le_of_ble_eq_true rfl) dX12_feet_114 (fun H locs hP hD hS => ?_)
                have hP : va_P G gcl (wM am ty τ (up (up (up (up (up (up (up (up (up (up (up (up ρ 14 (sc (0))) 27 wT) 28 qT) 29 gm) 30 (sc (nm))) 31 la) 32 me) 33 (sc (n8))) 34 qu) 35 qd) 37 (sc (il))) 36 (sc (0))) ++ cs) H := hP
                have hD : va_D A (wM am ty τ (up (up (up (up (up (up (up (up (up (up (up (up ρ 14 (sc (0))) 27 wT) 28 qT) 29 gm) 30 (sc (nm))) 31 la) 32 me) 33 (sc (n8))) 34 qu) 35 qd) 37 (sc (il))) 36 (sc (0))) ++ cs) := hD
                refine lv_iload hx hb dX12_feet_117 (lv_at hl 0 rfl) ?_
                refine li_if_eq (tgt := 127) hx hb ⟨by omega, by omega⟩ dX12_feet_119 (by decide) (fun c119 => ?_) (fun c119 => ?_)
                · exfalso
                  omega
                · refine lv_iload hx hb dX12_feet_122 (lv_at hl 1 rfl) ?_
                  refine lv_goto (tgt := 129) hx hb dX12_feet_124 (by decide) ?_
                  exact eMi hQ hx hb hr hlk hP hD hS (Nat.le_of_ble_eq_true rfl) (Nat.le_of_ble_eq_true rfl) dX12_feet_129 (⟨hi, wT, qT, gm, nm, la, me, n8, qu, qd, 0, il, rfl, rfl, hSt, CIx_0 hil, .inr ⟨by omega, .inr (hyes (by omega) (by omega))⟩⟩)
              · refine lv_aload_n hx hb dX12_feet_65 rfl (lv_at hl 4 rfl) ?_
                refine va_get (D := G) (ci := 11) (v := .ref (am 6)) (C := RX12) (T := TX12) (N := 52) hx hb hts in_X12 hown hK hP 0 (aM_0 _ _ _ _ _) rfl 8 (by decide) (hts _ q1273) (fun _ h9 => h9) rfl dX12_feet_66 ?_
                refine lv_iload_n hx hb dX12_feet_69 rfl (lv_at hl 5 rfl) ?_
                refine lv_iload_n hx hb dX12_feet_70 rfl (lv_at hl 2 rfl) ?_
                refine lv_iload hx hb dX12_feet_71 (lv_at hl 1 rfl) ?_
                refine li_add hx hb dX12_feet_73 ?_
                refine li_iconst hx hb dX12_feet_74 ?_
                refine li_div hx hb (by omega) (by omega) (by omega) (by omega) dX12_feet_75 ?_
                refine li_iast (g := g8) (W2 := wM am ty (up τ 8 (ug g8 r1 ((lo + hi) / 2))) (up (up (up (up (up (up (up (up (up (up (up (up ρ 14 (sc (0))) 27 wT) 28 qT) 29 gm) 30 (sc (nm))) 31 la) 32 me) 33 (sc (n8))) 34 qu) 35 qd) 36 (sc (is))) 37 (sc (il))) ++ cs) hx hb hK hP hD hS 6 0 (aM_6 _ _ _ _ _) rfl (by omega) (by omega) (by decide) rfl dX12_feet_76 (fun H locs hP hD hS => ?_)
                refine lv_aload_n hx hb dX12_feet_77 rfl (lv_at hl 4 rfl) ?_
                refine kM (va_runV (As := []) (rest := []) ⟨hx, hb, hml, hown, hts⟩ ((m_hasWayM l G am ty (up τ 8 (ug g8 r1 ((lo + hi) / 2))) (up (up (up (up (up (up (up (up (up (up (up (up ρ 14 (sc (0))) 27 wT) 28 qT) 29 gm) 30 (sc (nm))) 31 la) 32 me) 33 (sc (n8))) 34 qu) 35 qd) 36 (sc (is))) 37 (sc (il))) cs (lenF F r1 ((lo + hi) / 2)) (show okF (lenF F r1 ((lo + hi) / 2)) from lenF_ok hF (by omega)) (show Sim (lenF F r1 ((lo + hi) / 2)) (up τ 8 (ug g8 r1 ((lo + hi) / 2))) from by rw [hg8, ug_ug]; exact Sim_len hSm) (show wfS wT qT from hSt) (show zerF (lenF F r1 ((lo + hi) / 2)) from hZ) (show il = 0 ∨ il = 1 from hil)) H.size) (cwV 0 hts (lw_V q1665 q1667 qs70 q87 q1668) rfl rfl rfl (by decide +kernel) ⟨Nat.le_of_ble_eq_true rfl, Nat.le_of_ble_eq_true rfl⟩) (pvM (r := (RX12, TX12, 52)) hK hP hD hX 0 (aM_0 _ _ _ _ _) rfl) rfl rfl hl.1 rfl (lv_room (Nat.le_of_ble_eq_true rfl)) dX12_feet_78 ⟨Nat.le_of_ble_eq_true rfl, Nat.le_of_ble_eq_true rfl⟩) hD hS hA (fun v ws1 H locs hv hP hD hS => ?_)
                obtain ⟨z78, wT78, qT78, gm78, nm78, la78, me78, n878, qu78, qd78, is78, il78, rfl, rfl, hSt78, hil78, ⟨rfl, hb78⟩ | ⟨rfl, hb78⟩⟩ := hv
                · have hP : va_P G gcl (wM am ty (up τ 8 (ug g8 r1 ((lo + hi) / 2))) (up (up (up (up (up (up (up (up (up (up (up (up ρ 14 (sc (0))) 27 wT78) 28 qT78) 29 gm78) 30 (sc (nm78))) 31 la78) 32 me78) 33 (sc (n878))) 34 qu78) 35 qd78) 36 (sc (is78))) 37 (sc (il78))) ++ cs) H := hP
                  have hD : va_D A (wM am ty (up τ 8 (ug g8 r1 ((lo + hi) / 2))) (up (up (up (up (up (up (up (up (up (up (up (up ρ 14 (sc (0))) 27 wT78) 28 qT78) 29 gm78) 30 (sc (nm78))) 31 la78) 32 me78) 33 (sc (n878))) 34 qu78) 35 qd78) 36 (sc (is78))) 37 (sc (il78))) ++ cs) := hD
                  have hSt78 : wfS wT78 qT78 := hSt78
                  have hil78 : il78 = 0 ∨ il78 = 1 := hil78
                  have hb78 : ∃ z, IsSoon (lenF F r1 ((lo + hi) / 2)) (cdv ((lenF F r1 ((lo + hi) / 2)) 6) ((lenF F r1 ((lo + hi) / 2)) 7)) z ∧ ¬ z = -4 := hb78
                  have hLD1 : LD F (cdv (F 6) (F 7)) r1 ((lo + hi) / 2) := by obtain ⟨z, a, b⟩ := hb78; exact LD_of (lenF_wf hW (by omega)) a b
                  refine li_if_eq (tgt := 95) hx hb ⟨by decide, by decide⟩ dX12_feet_81 (by decide) (fun c81 => ?_) (fun c81 => ?_)
                  · exact absurd c81 (by decide)
                  · refine lv_aload_n hx hb dX12_feet_84 rfl (lv_at hl 4 rfl) ?_
                    refine va_get (D := G) (ci := 11) (v := .ref (am 6)) (C := RX12) (T := TX12) (N := 52) hx hb hts in_X12 hown hK hP 0 (aM_0 _ _ _ _ _) rfl 8 (by decide) (hts _ q1273) (fun _ h9 => h9) rfl dX12_feet_85 ?_
                    refine lv_iload_n hx hb dX12_feet_88 rfl (lv_at hl 5 rfl) ?_
                    refine li_iald (g := (ug g8 r1 ((lo + hi) / 2))) hx hb hK hP 6 0 (aM_6 _ _ _ _ _) rfl (by omega) (by omega) (by decide) dX12_feet_89 ?_
                    refine li_top (b := ((lo + hi) / 2)) (ug_s _ _ _) ?_
                    refine lv_istore (lv' := [(4, .int (ii ((lo + hi) / 2))), (5, .int (ii w5)), (3, .int (ii lo)), (2, .int (ii (τ 8 r1))), (0, .ref (am 0)), (1, .int (ii r1))]) hx hb dX12_feet_90 hl (by decide) rfl (fun ls hl => ?_)
                    refine lv_goto (tgt := 52) hx hb dX12_feet_92 (by decide) ?_
                    exact ih w5 ((lo + hi) / 2) lo (ug g8 r1 ((lo + hi) / 2)) wT78 qT78 gm78 nm78 la78 me78 n878 qu78 qd78 is78 il78 (((lo + hi) / 2)) (by rw [hg8, ug_ug]) (hSt78) (hil78) (by omega) (by omega) (by omega) (hw5) (fun _ => hLD1) (hlo) (by omega) H locs hP hD hS ls (lv_sub hl [1, 0, 2, 3, 4, 5] rfl)
                · have hP : va_P G gcl (wM am ty (up τ 8 (ug g8 r1 ((lo + hi) / 2))) (up (up (up (up (up (up (up (up (up (up (up (up ρ 14 (sc (0))) 27 wT78) 28 qT78) 29 gm78) 30 (sc (nm78))) 31 la78) 32 me78) 33 (sc (n878))) 34 qu78) 35 qd78) 36 (sc (is78))) 37 (sc (il78))) ++ cs) H := hP
                  have hD : va_D A (wM am ty (up τ 8 (ug g8 r1 ((lo + hi) / 2))) (up (up (up (up (up (up (up (up (up (up (up (up ρ 14 (sc (0))) 27 wT78) 28 qT78) 29 gm78) 30 (sc (nm78))) 31 la78) 32 me78) 33 (sc (n878))) 34 qu78) 35 qd78) 36 (sc (is78))) 37 (sc (il78))) ++ cs) := hD
                  have hSt78 : wfS wT78 qT78 := hSt78
                  have hil78 : il78 = 0 ∨ il78 = 1 := hil78
                  have hb78 : IsSoon (lenF F r1 ((lo + hi) / 2)) (cdv ((lenF F r1 ((lo + hi) / 2)) 6) ((lenF F r1 ((lo + hi) / 2)) 7)) (-4) := hb78
                  have hLD0 : ¬ LD F (cdv (F 6) (F 7)) r1 ((lo + hi) / 2) := LD_no (lenF_wf hW (by omega)) hb78
                  refine li_if_eq (tgt := 95) hx hb ⟨by decide, by decide⟩ dX12_feet_81 (by decide) (fun c81 => ?_) (fun c81 => ?_)
                  · refine lv_aload_n hx hb dX12_feet_95 rfl (lv_at hl 4 rfl) ?_
                    refine va_get (D := G) (ci := 11) (v := .ref (am 6)) (C := RX12) (T := TX12) (N := 52) hx hb hts in_X12 hown hK hP 0 (aM_0 _ _ _ _ _) rfl 8 (by decide) (hts _ q1273) (fun _ h9 => h9) rfl dX12_feet_96 ?_
                    refine lv_iload_n hx hb dX12_feet_99 rfl (lv_at hl 5 rfl) ?_
                    refine li_iald (g := (ug g8 r1 ((lo + hi) / 2))) hx hb hK hP 6 0 (aM_6 _ _ _ _ _) rfl (by omega) (by omega) (by decide) dX12_feet_100 ?_
                    refine li_top (b := ((lo + hi) / 2)) (ug_s _ _ _) ?_
                    refine lv_istore_n (lv' := [(3, .int (ii ((lo + hi) / 2))), (5, .int (ii w5)), (4, .int (ii hi)), (2, .int (ii (τ 8 r1))), (0, .ref (am 0)), (1, .int (ii r1))]) hx hb dX12_feet_101 rfl hl (by decide) rfl (fun ls hl => ?_)
                    refine lv_goto (tgt := 52) hx hb dX12_feet_102 (by decide) ?_
                    exact ih w5 hi ((lo + hi) / 2) (ug g8 r1 ((lo + hi) / 2)) wT78 qT78 gm78 nm78 la78 me78 n878 qu78 qd78 is78 il78 (((lo + hi) / 2)) (by rw [hg8, ug_ug]) (hSt78) (hil78) (by omega) (by omega) (by omega) (hw5) (hhi) (.inr hLD0) (by omega) H locs hP hD hS ls (lv_sub hl [1, 2, 0, 3, 4, 5] rfl)
                  · exact absurd c81 (by decide)
        exact L52 _ 1 400 0 (ug (τ 8) r1 400) wT47 qT47 gm47 nm47 la47 me47 n847 qu47 qd47 is47 il47 400 (rfl) (hSt47) (hil47) (by omega) (by omega) (Int.le_refl _) (.inl ⟨rfl, hLD1⟩) (fun _ => hLD1) (.inl rfl) (Nat.lt_succ_self _) H locs hP hD hS ls (lv_sub hl [0, 1, 2, 3, 4, 5] rfl)
      · have hP : va_P G gcl (wM am ty (up τ 8 (ug (τ 8) r1 400)) (up (up (up (up (up (up (up (up (up (up (up (up ρ 14 (sc (0))) 27 wT47) 28 qT47) 29 gm47) 30 (sc (nm47))) 31 la47) 32 me47) 33 (sc (n847))) 34 qu47) 35 qd47) 36 (sc (is47))) 37 (sc (il47))) ++ cs) H := hP
        have hD : va_D A (wM am ty (up τ 8 (ug (τ 8) r1 400)) (up (up (up (up (up (up (up (up (up (up (up (up ρ 14 (sc (0))) 27 wT47) 28 qT47) 29 gm47) 30 (sc (nm47))) 31 la47) 32 me47) 33 (sc (n847))) 34 qu47) 35 qd47) 36 (sc (is47))) 37 (sc (il47))) ++ cs) := hD
        have hSt47 : wfS wT47 qT47 := hSt47
        have hil47 : il47 = 0 ∨ il47 = 1 := hil47
        have hb47 : IsSoon (lenF F r1 400) (cdv ((lenF F r1 400) 6) ((lenF F r1 400) 7)) (-4) := hb47
        have hLD0 : ¬ LD F (cdv (F 6) (F 7)) r1 400 := LD_no (lenF_wf hW (by decide)) hb47
        refine lv_istore (lv' := [(5, .int (ii 0)), (4, .int (ii 400)), (3, .int (ii 0)), (2, .int (ii (τ 8 r1))), (0, .ref (am 0)), (1, .int (ii r1))]) hx hb dX12_feet_50 hl (by decide) rfl (fun ls hl => ?_)
        have L52 : ∀ (n : Nat) (w5 : Int) (hi : Int) (lo : Int) (g8 : Int → Int) (wT : Int → Int) (qT : Int → Int) (gm : Int → Int) (nm : Int) (la : Int → Int) (me : Int → Int) (n8 : Int) (qu : Int → Int) (qd : Int → Int) (is : Int) (il : Int) (x0 : Int) (_ : g8 = ug (τ 8) r1 x0) (_ : wfS wT qT) (_ : il = 0 ∨ il = 1) (_ : 0 ≤ lo) (_ : lo < hi) (_ : hi ≤ 400) (_ : (w5 = 1 ∧ LD F (cdv (F 6) (F 7)) r1 400) ∨ (w5 = 0 ∧ ¬ LD F (cdv (F 6) (F 7)) r1 400)) (_ : ¬ w5 = 0 → LD F (cdv (F 6) (F 7)) r1 hi) (_ : lo = 0 ∨ ¬ LD F (cdv (F 6) (F 7)) r1 lo) (_ : (hi - lo).toNat < n) (H : Heap) (locs : List Loc) (_ : va_P G gcl (wM am ty (up τ 8 g8) (up (up (up (up (up (up (up (up (up (up (up (up ρ 14 (sc (0))) 27 wT) 28 qT) 29 gm) 30 (sc (nm))) 31 la) 32 me) 33 (sc (n8))) 34 qu) 35 qd) 36 (sc (is))) 37 (sc (il))) ++ cs) H) (_ : va_D A (wM am ty (up τ 8 g8) (up (up (up (up (up (up (up (up (up (up (up (up ρ 14 (sc (0))) 27 wT) 28 qT) 29 gm) 30 (sc (nm))) 31 la) 32 me) 33 (sc (n8))) 34 qu) 35 qd) 36 (sc (is))) 37 (sc (il))) ++ cs)) (_ : va_S A s.heap H locs) (ls : Array Slot), lv_has ls 6 [(5, .int (ii w5)), (4, .int (ii hi)), (3, .int (ii lo)), (2, .int (ii (τ 8 r1))), (0, .ref (am 0)), (1, .int (ii r1))] → W p l e (rm4 7 0 0 173) s m args below meth c H locs 0 0 Q (F0 m 52 ls []) := by
          intro n
          induction n with
          | zero =>
            intro w5 hi lo g8 wT qT gm nm la me n8 qu qd is il x0 hg8 hSt hil hb0 hb1 hb2 hw5 hhi hlo hm
            exact absurd hm (Nat.not_lt_zero _)
          | succ n ih =>
            intro w5 hi lo g8 wT qT gm nm la me n8 qu qd is il x0 hg8 hSt hil hb0 hb1 hb2 hw5 hhi hlo hm H locs hP hD hS ls hl
            refine lv_iload hx hb dX12_feet_52 (lv_at hl 0 rfl) ?_
            refine li_if_eq (tgt := 105) hx hb ⟨by omega, by omega⟩ dX12_feet_54 (by decide) (fun c54 => ?_) (fun c54 => ?_)
            · have hno : w5 = 0 → ¬ LD F (cdv (F 6) (F 7)) r1 400 := fun q => (hw5.resolve_left (fun z => by omega)).2
              have hyes : ¬ w5 = 0 → hi - lo ≤ 1 → LD F (cdv (F 6) (F 7)) r1 400 ∧ 1 ≤ hi ∧ hi ≤ 400 ∧ LD F (cdv (F 6) (F 7)) r1 hi ∧ ∀ x, 1 ≤ x → x < hi → ¬ LD F (cdv (F 6) (F 7)) r1 x := fun q q1 => ⟨(hw5.resolve_right (fun z => by omega)).2, by omega, by omega, hhi q, fun x x1 x2 => feet_lo hst0 hW hlo x1 (by omega) (by omega)⟩
              refine lv_aload_n hx hb dX12_feet_105 rfl (lv_at hl 4 rfl) ?_
              refine va_get (D := G) (ci := 11) (v := .ref (am 6)) (C := RX12) (T := TX12) (N := 52) hx hb hts in_X12 hown hK hP 0 (aM_0 _ _ _ _ _) rfl 8 (by decide) (hts _ q1273) (fun _ h9 => h9) rfl dX12_feet_106 ?_
              refine lv_iload_n hx hb dX12_feet_109 rfl (lv_at hl 5 rfl) ?_
              refine lv_iload_n hx hb dX12_feet_110 rfl (lv_at hl 3 rfl) ?_
              refine li_iast (g := g8) (W2 := wM am ty (up τ 8 (ug g8 r1 (τ 8 r1))) (up (up (up (up (up (up (up (up (up (up (up (up ρ 14 (sc (0))) 27 wT) 28 qT) 29 gm) 30 (sc (nm))) 31 la) 32 me) 33 (sc (n8))) 34 qu) 35 qd) 36 (sc (is))) 37 (sc (il))) ++ cs) hx hb hK hP hD hS 6 0 (aM_6 _ _ _ _ _) rfl (by omega) (by omega) (by decide) rfl dX12_feet_111 (fun H locs hP hD hS => ?_)
              have hgs : ug g8 r1 (τ 8 r1) = τ 8 := by rw [hg8, ug_ug]; exact ug_same rfl
              rw [hgs, up_id] at hP hD
              refine lv_aload_n hx hb dX12_feet_112 rfl (lv_at hl 4 rfl) ?_
              refine li_iconst hx hb dX12_feet_113 ?_
              refine va_put (D := G) (ci := 11) (v := .int (ii 0)) (ty := .boolean) (C := RX12) (T := TX12) (N := 52) hx hb hts in_X12 tyX12 tyX12_ok nmX12 hown hK hP hD hS 0 (aM_0 _ _ _ _ _) rfl 36 (by decide) (hts _ q1301) (fun _ h9 => h9) rfl (tyX12_ok 36 (by decide)) (nrw_z (by omega)) (fit_z (by omega)) (Nat.le_of_ble_eq_true rfl) dX12_feet_114 (fun H locs hP hD hS => ?_)
              have hP : va_P G gcl (wM am ty τ (up (up (up (up (up (up (up (up (up (up (up (up ρ 14 (sc (0))) 27 wT) 28 qT) 29 gm) 30 (sc (nm))) 31 la) 32 me) 33 (sc (n8))) 34 qu) 35 qd) 37 (sc (il))) 36 (sc (0))) ++ cs) H := hP
              have hD : va_D A (wM am ty τ (up (up (up (up (up (up (up (up (up (up (up (up ρ 14 (sc (0))) 27 wT) 28 qT) 29 gm) 30 (sc (nm))) 31 la) 32 me) 33 (sc (n8))) 34 qu) 35 qd) 37 (sc (il))) 36 (sc (0))) ++ cs) := hD
              refine lv_iload hx hb dX12_feet_117 (lv_at hl 0 rfl) ?_
              refine li_if_eq (tgt := 127) hx hb ⟨by omega, by omega⟩ dX12_feet_119 (by decide) (fun c119 => ?_) (fun c119 => ?_)
              · refine li_bipush hx hb dX12_feet_127 (by decide) ?_
                exact eMi hQ hx hb hr hlk hP hD hS (Nat.le_of_ble_eq_true rfl) (Nat.le_of_ble_eq_true rfl) dX12_feet_129 (⟨-4, wT, qT, gm, nm, la, me, n8, qu, qd, 0, il, rfl, rfl, hSt, CIx_0 hil, .inr ⟨by omega, .inl ⟨rfl, hno (by omega)⟩⟩⟩)
              · exfalso
                omega
            · refine lv_iload hx hb dX12_feet_57 (lv_at hl 1 rfl) ?_
              refine lv_iload_n hx hb dX12_feet_59 rfl (lv_at hl 2 rfl) ?_
              refine li_sub hx hb dX12_feet_60 ?_
              refine li_iconst hx hb dX12_feet_61 ?_
              refine li_icmp_le (tgt := 105) hx hb ⟨by omega, by omega⟩ ⟨by decide, by decide⟩ dX12_feet_62 (by decide) (fun c62 => ?_) (fun c62 => ?_)
              · have hno : w5 = 0 → ¬ LD F (cdv (F 6) (F 7)) r1 400 := fun q => (hw5.resolve_left (fun z => by omega)).2
                have hyes : ¬ w5 = 0 → hi - lo ≤ 1 → LD F (cdv (F 6) (F 7)) r1 400 ∧ 1 ≤ hi ∧ hi ≤ 400 ∧ LD F (cdv (F 6) (F 7)) r1 hi ∧ ∀ x, 1 ≤ x → x < hi → ¬ LD F (cdv (F 6) (F 7)) r1 x := fun q q1 => ⟨(hw5.resolve_right (fun z => by omega)).2, by omega, by omega, hhi q, fun x x1 x2 => feet_lo hst0 hW hlo x1 (by omega) (by omega)⟩
                refine lv_aload_n hx hb dX12_feet_105 rfl (lv_at hl 4 rfl) ?_
                refine va_get (D := G) (ci := 11) (v := .ref (am 6)) (C := RX12) (T := TX12) (N := 52) hx hb hts in_X12 hown hK hP 0 (aM_0 _ _ _ _ _) rfl 8 (by decide) (hts _ q1273) (fun _ h9 => h9) rfl dX12_feet_106 ?_
                refine lv_iload_n hx hb dX12_feet_109 rfl (lv_at hl 5 rfl) ?_
                refine lv_iload_n hx hb dX12_feet_110 rfl (lv_at hl 3 rfl) ?_
                refine li_iast (g := g8) (W2 := wM am ty (up τ 8 (ug g8 r1 (τ 8 r1))) (up (up (up (up (up (up (up (up (up (up (up (up ρ 14 (sc (0))) 27 wT) 28 qT) 29 gm) 30 (sc (nm))) 31 la) 32 me) 33 (sc (n8))) 34 qu) 35 qd) 36 (sc (is))) 37 (sc (il))) ++ cs) hx hb hK hP hD hS 6 0 (aM_6 _ _ _ _ _) rfl (by omega) (by omega) (by decide) rfl dX12_feet_111 (fun H locs hP hD hS => ?_)
                have hgs : ug g8 r1 (τ 8 r1) = τ 8 := by rw [hg8, ug_ug]; exact ug_same rfl
                rw [hgs, up_id] at hP hD
                refine lv_aload_n hx hb dX12_feet_112 rfl (lv_at hl 4 rfl) ?_
                refine li_iconst hx hb dX12_feet_113 ?_
                refine va_put (D := G) (ci := 11) (v := .int (ii 0)) (ty := .boolean) (C := RX12) (T := TX12) (N := 52) hx hb hts in_X12 tyX12 tyX12_ok nmX12 hown hK hP hD hS 0 (aM_0 _ _ _ _ _) rfl 36 (by decide) (hts _ q1301) (fun _ h9 => h9) rfl (tyX12_ok 36 (by decide)) (nrw_z (by omega)) (fit_z (by omega)) (Nat.le_of_ble_eq_true rfl) dX12_feet_114 (fun H locs hP hD hS => ?_)
                have hP : va_P G gcl (wM am ty τ (up (up (up (up (up (up (up (up (up (up (up (up ρ 14 (sc (0))) 27 wT) 28 qT) 29 gm) 30 (sc (nm))) 31 la) 32 me) 33 (sc (n8))) 34 qu) 35 qd) 37 (sc (il))) 36 (sc (0))) ++ cs) H := hP
                have hD : va_D A (wM am ty τ (up (up (up (up (up (up (up (up (up (up (up (up ρ 14 (sc (0))) 27 wT) 28 qT) 29 gm) 30 (sc (nm))) 31 la) 32 me) 33 (sc (n8))) 34 qu) 35 qd) 37 (sc (il))) 36 (sc (0))) ++ cs) := hD
                refine lv_iload hx hb dX12_feet_117 (lv_at hl 0 rfl) ?_
                refine li_if_eq (tgt := 127) hx hb ⟨by omega, by omega⟩ dX12_feet_119 (by decide) (fun c119 => ?_) (fun c119 => ?_)
                · exfalso
                  omega
                · refine lv_iload hx hb dX12_feet_122 (lv_at hl 1 rfl) ?_
                  refine lv_goto (tgt := 129) hx hb dX12_feet_124 (by decide) ?_
                  exact eMi hQ hx hb hr hlk hP hD hS (Nat.le_of_ble_eq_true rfl) (Nat.le_of_ble_eq_true rfl) dX12_feet_129 (⟨hi, wT, qT, gm, nm, la, me, n8, qu, qd, 0, il, rfl, rfl, hSt, CIx_0 hil, .inr ⟨by omega, .inr (hyes (by omega) (by omega))⟩⟩)
              · refine lv_aload_n hx hb dX12_feet_65 rfl (lv_at hl 4 rfl) ?_
                refine va_get (D := G) (ci := 11) (v := .ref (am 6)) (C := RX12) (T := TX12) (N := 52) hx hb hts in_X12 hown hK hP 0 (aM_0 _ _ _ _ _) rfl 8 (by decide) (hts _ q1273) (fun _ h9 => h9) rfl dX12_feet_66 ?_
                refine lv_iload_n hx hb dX12_feet_69 rfl (lv_at hl 5 rfl) ?_
                refine lv_iload_n hx hb dX12_feet_70 rfl (lv_at hl 2 rfl) ?_
                refine lv_iload hx hb dX12_feet_71 (lv_at hl 1 rfl) ?_
                refine li_add hx hb dX12_feet_73 ?_
                refine li_iconst hx hb dX12_feet_74 ?_
                refine li_div hx hb (by omega) (by omega) (by omega) (by omega) dX12_feet_75 ?_
                refine li_iast (g := g8) (W2 := wM am ty (up τ 8 (ug g8 r1 ((lo + hi) / 2))) (up (up (up (up (up (up (up (up (up (up (up (up ρ 14 (sc (0))) 27 wT) 28 qT) 29 gm) 30 (sc (nm))) 31 la) 32 me) 33 (sc (n8))) 34 qu) 35 qd) 36 (sc (is))) 37 (sc (il))) ++ cs) hx hb hK hP hD hS 6 0 (aM_6 _ _ _ _ _) rfl (by omega) (by omega) (by decide) rfl dX12_feet_76 (fun H locs hP hD hS => ?_)
                refine lv_aload_n hx hb dX12_feet_77 rfl (lv_at hl 4 rfl) ?_
                refine kM (va_runV (As := []) (rest := []) ⟨hx, hb, hml, hown, hts⟩ ((m_hasWayM l G am ty (up τ 8 (ug g8 r1 ((lo + hi) / 2))) (up (up (up (up (up (up (up (up (up (up (up (up ρ 14 (sc (0))) 27 wT) 28 qT) 29 gm) 30 (sc (nm))) 31 la) 32 me) 33 (sc (n8))) 34 qu) 35 qd) 36 (sc (is))) 37 (sc (il))) cs (lenF F r1 ((lo + hi) / 2)) (show okF (lenF F r1 ((lo + hi) / 2)) from lenF_ok hF (by omega)) (show Sim (lenF F r1 ((lo + hi) / 2)) (up τ 8 (ug g8 r1 ((lo + hi) / 2))) from by rw [hg8, ug_ug]; exact Sim_len hSm) (show wfS wT qT from hSt) (show zerF (lenF F r1 ((lo + hi) / 2)) from hZ) (show il = 0 ∨ il = 1 from hil)) H.size) (cwV 0 hts (lw_V q1665 q1667 qs70 q87 q1668) rfl rfl rfl (by decide +kernel) ⟨Nat.le_of_ble_eq_true rfl, Nat.le_of_ble_eq_true rfl⟩) (pvM (r := (RX12, TX12, 52)) hK hP hD hX 0 (aM_0 _ _ _ _ _) rfl) rfl rfl hl.1 rfl (lv_room (Nat.le_of_ble_eq_true rfl)) dX12_feet_78 ⟨Nat.le_of_ble_eq_true rfl, Nat.le_of_ble_eq_true rfl⟩) hD hS hA (fun v ws1 H locs hv hP hD hS => ?_)
                obtain ⟨z78, wT78, qT78, gm78, nm78, la78, me78, n878, qu78, qd78, is78, il78, rfl, rfl, hSt78, hil78, ⟨rfl, hb78⟩ | ⟨rfl, hb78⟩⟩ := hv
                · have hP : va_P G gcl (wM am ty (up τ 8 (ug g8 r1 ((lo + hi) / 2))) (up (up (up (up (up (up (up (up (up (up (up (up ρ 14 (sc (0))) 27 wT78) 28 qT78) 29 gm78) 30 (sc (nm78))) 31 la78) 32 me78) 33 (sc (n878))) 34 qu78) 35 qd78) 36 (sc (is78))) 37 (sc (il78))) ++ cs) H := hP
                  have hD : va_D A (wM am ty (up τ 8 (ug g8 r1 ((lo + hi) / 2))) (up (up (up (up (up (up (up (up (up (up (up (up ρ 14 (sc (0))) 27 wT78) 28 qT78) 29 gm78) 30 (sc (nm78))) 31 la78) 32 me78) 33 (sc (n878))) 34 qu78) 35 qd78) 36 (sc (is78))) 37 (sc (il78))) ++ cs) := hD
                  have hSt78 : wfS wT78 qT78 := hSt78
                  have hil78 : il78 = 0 ∨ il78 = 1 := hil78
                  have hb78 : ∃ z, IsSoon (lenF F r1 ((lo + hi) / 2)) (cdv ((lenF F r1 ((lo + hi) / 2)) 6) ((lenF F r1 ((lo + hi) / 2)) 7)) z ∧ ¬ z = -4 := hb78
                  have hLD1 : LD F (cdv (F 6) (F 7)) r1 ((lo + hi) / 2) := by obtain ⟨z, a, b⟩ := hb78; exact LD_of (lenF_wf hW (by omega)) a b
                  refine li_if_eq (tgt := 95) hx hb ⟨by decide, by decide⟩ dX12_feet_81 (by decide) (fun c81 => ?_) (fun c81 => ?_)
                  · exact absurd c81 (by decide)
                  · refine lv_aload_n hx hb dX12_feet_84 rfl (lv_at hl 4 rfl) ?_
                    refine va_get (D := G) (ci := 11) (v := .ref (am 6)) (C := RX12) (T := TX12) (N := 52) hx hb hts in_X12 hown hK hP 0 (aM_0 _ _ _ _ _) rfl 8 (by decide) (hts _ q1273) (fun _ h9 => h9) rfl dX12_feet_85 ?_
                    refine lv_iload_n hx hb dX12_feet_88 rfl (lv_at hl 5 rfl) ?_
                    refine li_iald (g := (ug g8 r1 ((lo + hi) / 2))) hx hb hK hP 6 0 (aM_6 _ _ _ _ _) rfl (by omega) (by omega) (by decide) dX12_feet_89 ?_
                    refine li_top (b := ((lo + hi) / 2)) (ug_s _ _ _) ?_
                    refine lv_istore (lv' := [(4, .int (ii ((lo + hi) / 2))), (5, .int (ii w5)), (3, .int (ii lo)), (2, .int (ii (τ 8 r1))), (0, .ref (am 0)), (1, .int (ii r1))]) hx hb dX12_feet_90 hl (by decide) rfl (fun ls hl => ?_)
                    refine lv_goto (tgt := 52) hx hb dX12_feet_92 (by decide) ?_
                    exact ih w5 ((lo + hi) / 2) lo (ug g8 r1 ((lo + hi) / 2)) wT78 qT78 gm78 nm78 la78 me78 n878 qu78 qd78 is78 il78 (((lo + hi) / 2)) (by rw [hg8, ug_ug]) (hSt78) (hil78) (by omega) (by omega) (by omega) (hw5) (fun _ => hLD1) (hlo) (by omega) H locs hP hD hS ls (lv_sub hl [1, 0, 2, 3, 4, 5] rfl)
                · have hP : va_P G gcl (wM am ty (up τ 8 (ug g8 r1 ((lo + hi) / 2))) (up (up (up (up (up (up (up (up (up (up (up (up ρ 14 (sc (0))) 27 wT78) 28 qT78) 29 gm78) 30 (sc (nm78))) 31 la78) 32 me78) 33 (sc (n878))) 34 qu78) 35 qd78) 36 (sc (is78))) 37 (sc (il78))) ++ cs) H := hP
                  have hD : va_D A (wM am ty (up τ 8 (ug g8 r1 ((lo + hi) / 2))) (up (up (up (up (up (up (up (up (up (up (up (up ρ 14 (sc (0))) 27 wT78) 28 qT78) 29 gm78) 30 (sc (nm78))) 31 la78) 32 me78) 33 (sc (n878))) 34 qu78) 35 qd78) 36 (sc (is78))) 37 (sc (il78))) ++ cs) := hD
                  have hSt78 : wfS wT78 qT78 := hSt78
                  have hil78 : il78 = 0 ∨ il78 = 1 := hil78
                  have hb78 : IsSoon (lenF F r1 ((lo + hi) / 2)) (cdv ((lenF F r1 ((lo + hi) / 2)) 6) ((lenF F r1 ((lo + hi) / 2)) 7)) (-4) := hb78
                  have hLD0 : ¬ LD F (cdv (F 6) (F 7)) r1 ((lo + hi) / 2) := LD_no (lenF_wf hW (by omega)) hb78
                  refine li_if_eq (tgt := 95) hx hb ⟨by decide, by decide⟩ dX12_feet_81 (by decide) (fun c81 => ?_) (fun c81 => ?_)
                  · refine lv_aload_n hx hb dX12_feet_95 rfl (lv_at hl 4 rfl) ?_
                    refine va_get (D := G) (ci := 11) (v := .ref (am 6)) (C := RX12) (T := TX12) (N := 52) hx hb hts in_X12 hown hK hP 0 (aM_0 _ _ _ _ _) rfl 8 (by decide) (hts _ q1273) (fun _ h9 => h9) rfl dX12_feet_96 ?_
                    refine lv_iload_n hx hb dX12_feet_99 rfl (lv_at hl 5 rfl) ?_
                    refine li_iald (g := (ug g8 r1 ((lo + hi) / 2))) hx hb hK hP 6 0 (aM_6 _ _ _ _ _) rfl (by omega) (by omega) (by decide) dX12_feet_100 ?_
                    refine li_top (b := ((lo + hi) / 2)) (ug_s _ _ _) ?_
                    refine lv_istore_n (lv' := [(3, .int (ii ((lo + hi) / 2))), (5, .int (ii w5)), (4, .int (ii hi)), (2, .int (ii (τ 8 r1))), (0, .ref (am 0)), (1, .int (ii r1))]) hx hb dX12_feet_101 rfl hl (by decide) rfl (fun ls hl => ?_)
                    refine lv_goto (tgt := 52) hx hb dX12_feet_102 (by decide) ?_
                    exact ih w5 hi ((lo + hi) / 2) (ug g8 r1 ((lo + hi) / 2)) wT78 qT78 gm78 nm78 la78 me78 n878 qu78 qd78 is78 il78 (((lo + hi) / 2)) (by rw [hg8, ug_ug]) (hSt78) (hil78) (by omega) (by omega) (by omega) (hw5) (hhi) (.inr hLD0) (by omega) H locs hP hD hS ls (lv_sub hl [1, 2, 0, 3, 4, 5] rfl)
                  · exact absurd c81 (by decide)
        exact L52 _ 0 400 0 (ug (τ 8) r1 400) wT47 qT47 gm47 nm47 la47 me47 n847 qu47 qd47 is47 il47 400 (rfl) (hSt47) (hil47) (by omega) (by omega) (Int.le_refl _) (.inr ⟨rfl, hLD0⟩) (fun q => absurd rfl q) (.inl rfl) (Nat.lt_succ_self _) H locs hP hD hS ls (lv_sub hl [0, 1, 2, 3, 4, 5] rfl)
    · exact absurd c18 (by decide)
  · refine li_if_ne (tgt := 23) hx hb ⟨by decide, by decide⟩ dX12_feet_18 (by decide) (fun c18 => ?_) (fun c18 => ?_)
    · exact absurd c18 (by decide)
    · refine li_iconst hx hb dX12_feet_21 ?_
      exact eMi hQ hx hb hr hlk hP hD hS (Nat.le_of_ble_eq_true rfl) (Nat.le_of_ble_eq_true rfl) dX12_feet_22 (⟨-1, (ρ 27), (ρ 28), (ρ 29), ρ 30 0, (ρ 31), (ρ 32), ρ 33 0, (ρ 34), (ρ 35), ρ 36 0, ρ 37 0, rfl, rfl, hSt, hci, .inl ⟨by omega, rfl⟩⟩)
set_option maxHeartbeats 4000000 in
theorem m_feet (l : Launch) (G : va_G) (ad : Nat → Nat) (ty : Nat → ClassId) (hv : Nat → Option Nat) (σ ς κ : mem) (cs : va_W) (r1 : Int)  (hF : okF σ) (hT : wfS (ς 11) (ς 12)) (hrr : rg r1) : cM l yX1_feet (wsW_ yX1_feet cX1_feet 7 (some .int) [(20, 42, 134, 0), (54, 121, 134, 0), (134, 136, 134, 0)]) (rm4 7 0 0 166) G ty (wD ad ty hv σ ς κ ++ cs) [.ref (ad 0), .int (ii r1)] 0 0 (fun r W' => ∃ (z : Int) (ga : Int → Int) (gb : Int → Int) (na : Int) (la : Int → Int) (me : Int → Int) (n8 : Int) (qd : Int → Int) (qu : Int → Int) (wT : Int → Int) (qT : Int → Int) (κ' : mem), r = some (.int (ii z)) ∧ W' = wD ad ty hv σ (up (up (up (up (up (up (up (up (up (up ς 0 ga) 1 gb) 2 (sc (na))) 6 la) 7 me) 8 (sc (n8))) 9 qd) 10 qu) 11 wT) 12 qT) κ' ++ cs ∧ (wfS wT qT) ∧ ((¬ (0 ≤ r1 ∧ r1 < (σ 10 0)) ∧ z = -1) ∨ ((0 ≤ r1 ∧ r1 < (σ 10 0)) ∧ IsFeet σ (cdv (σ 6) (σ 7)) r1 z))) := by
  refine cM.ofWH (by decide) (Nat.le_of_ble_eq_true rfl) ?_
  intro p e s m args below meth c A Q H locs hQ hx hb hr hml hown hlk hname hts hK hP hD hS hA hX ls hl
  have hl : lv_has ls 7 [(0, .ref (ad 0)), (1, .int (ii r1))] := hl
  obtain ⟨hW, hWS, hlg⟩ := id hF
  obtain ⟨hw0, hw1, hw2, hw3, hw4, hw5, h8a, h8b, h9a, h9b, h10a, h10b⟩ := id hW
  obtain ⟨hs0, hs1⟩ := id hWS
  obtain ⟨hra, hrb⟩ := id hrr
  have hst0 := (cdv_dig hWS.1 hWS.2).1
  refine lv_aload_n hx hb dX1_feet_0 rfl (lv_at hl 0 rfl) ?_
  refine lv_iload_n hx hb dX1_feet_1 rfl (lv_at hl 1 rfl) ?_
  refine kR (va_runV (As := [.int (ii r1)]) (rest := []) ⟨hx, hb, hml, hown, hts⟩ (m_isRope l G ad ty hv σ ς κ cs r1 (show okF σ from hF) (show rg r1 from hrr)) (cwV 1 hts (lw_V q345 q347 qs15 q76 q348) rfl rfl rfl (by decide +kernel) ⟨Nat.le_of_ble_eq_true rfl, Nat.le_of_ble_eq_true rfl⟩) (pvR (r := (RX1, TX1, 21)) hK hP hD hX 0 (aD_0 _ _ _ _ _ _ _) rfl) rfl rfl hl.1 rfl (lv_room (Nat.le_of_ble_eq_true rfl)) dX1_feet_2 ⟨Nat.le_of_ble_eq_true rfl, Nat.le_of_ble_eq_true rfl⟩) (fun v hv => ?_)
  obtain ⟨z2, rfl, ⟨rfl, hb2⟩ | ⟨rfl, hb2⟩⟩ := hv
  · have hb2 : 0 ≤ r1 ∧ r1 < (σ 10 0) := hb2
    refine li_if_ne (tgt := 10) hx hb ⟨by decide, by decide⟩ dX1_feet_5 (by decide) (fun c5 => ?_) (fun c5 => ?_)
    · refine lv_aload_n hx hb dX1_feet_10 rfl (lv_at hl 0 rfl) ?_
      refine va_get (D := G) (ci := 0) (v := .ref (ad 1)) (C := RX1) (T := TX1) (N := 21) hx hb hts in_X1 hown hK hP 0 (aD_0 _ _ _ _ _ _ _) rfl 0 (by decide) (hts _ q977) (fun _ h9 => h9) rfl dX1_feet_11 ?_
      refine va_get (D := G) (ci := 1) (v := .ref (ad 7)) (C := RX2) (T := TX2) (N := 13) hx hb hts in_X2 hown hK hP 1 (aD_1 _ _ _ _ _ _ _) rfl 7 (by decide) (hts _ q799) (fun _ h9 => h9) rfl dX1_feet_14 ?_
      refine lv_iload_n hx hb dX1_feet_17 rfl (lv_at hl 1 rfl) ?_
      refine li_iald (g := (σ 5)) hx hb hK hP 7 0 (aD_7 _ _ _ _ _ _ _) rfl (by omega) (by omega) (by decide) dX1_feet_18 ?_
      have r19 := hw5 r1
      refine lv_istore_n (lv' := [(2, .int (ii (σ 5 r1))), (0, .ref (ad 0)), (1, .int (ii r1))]) hx hb dX1_feet_19 rfl hl (by decide) rfl (fun ls hl => ?_)
      refine lv_aload_n hx hb dX1_feet_20 rfl (lv_at hl 1 rfl) ?_
      refine va_get (D := G) (ci := 0) (v := .ref (ad 1)) (C := RX1) (T := TX1) (N := 21) hx hb hts in_X1 hown hK hP 0 (aD_0 _ _ _ _ _ _ _) rfl 0 (by decide) (hts _ q977) (fun _ h9 => h9) rfl dX1_feet_21 ?_
      refine va_get (D := G) (ci := 1) (v := .ref (ad 7)) (C := RX2) (T := TX2) (N := 13) hx hb hts in_X2 hown hK hP 1 (aD_1 _ _ _ _ _ _ _) rfl 7 (by decide) (hts _ q799) (fun _ h9 => h9) rfl dX1_feet_24 ?_
      refine lv_iload_n hx hb dX1_feet_27 rfl (lv_at hl 2 rfl) ?_
      refine li_sipush hx hb dX1_feet_28 (by decide) ?_
      refine li_iast (g := (σ 5)) (W2 := wD ad ty hv (up σ 5 (ug (σ 5) r1 400)) ς κ ++ cs) hx hb hK hP hD hS 7 0 (aD_7 _ _ _ _ _ _ _) rfl (by omega) (by omega) (by decide) rfl dX1_feet_31 (fun H locs hP hD hS => ?_)
      refine lv_aload_n hx hb dX1_feet_32 rfl (lv_at hl 1 rfl) ?_
      refine kM (va_runV (As := []) (rest := []) ⟨hx, hb, hml, hown, hts⟩ ((m_leadsDown l G ad ty hv (up σ 5 (ug (σ 5) r1 400)) ς κ cs (show okF (up σ 5 (ug (σ 5) r1 400)) from lenF_ok hF (by decide)) (show wfS (ς 11) (ς 12) from hT)) H.size) (cwV 0 hts (lw_V q714 q716 qs33 q76 q717) rfl rfl rfl (by decide +kernel) ⟨Nat.le_of_ble_eq_true rfl, Nat.le_of_ble_eq_true rfl⟩) (pvM (r := (RX1, TX1, 21)) hK hP hD hX 0 (aD_0 _ _ _ _ _ _ _) rfl) rfl rfl hl.1 rfl (lv_room (Nat.le_of_ble_eq_true rfl)) dX1_feet_33 ⟨Nat.le_of_ble_eq_true rfl, Nat.le_of_ble_eq_true rfl⟩) hD hS hA (fun v ws1 H locs hv hP hD hS => ?_)
      obtain ⟨z33, ga33, gb33, na33, la33, me33, n833, qd33, qu33, wT33, qT33, κ33, rfl, rfl, hT33, ⟨rfl, hb33⟩ | ⟨rfl, hb33⟩⟩ := hv
      · have hP : va_P G gcl (wD ad ty hv (up σ 5 (ug (σ 5) r1 400)) (up (up (up (up (up (up (up (up (up (up ς 0 ga33) 1 gb33) 2 (sc (na33))) 6 la33) 7 me33) 8 (sc (n833))) 9 qd33) 10 qu33) 11 wT33) 12 qT33) κ33 ++ cs) H := hP
        have hD : va_D A (wD ad ty hv (up σ 5 (ug (σ 5) r1 400)) (up (up (up (up (up (up (up (up (up (up ς 0 ga33) 1 gb33) 2 (sc (na33))) 6 la33) 7 me33) 8 (sc (n833))) 9 qd33) 10 qu33) 11 wT33) 12 qT33) κ33 ++ cs) := hD
        have hT33 : wfS wT33 qT33 := hT33
        have hb33 : ∃ z, IsSoon (up σ 5 (ug (σ 5) r1 400)) (cdv (σ 6) (σ 7)) z ∧ ¬ z = -4 := hb33
        have hLD1 : LD σ (cdv (σ 6) (σ 7)) r1 400 := by obtain ⟨z, a, b⟩ := hb33; exact LD_of (lenF_wf hW (by decide)) a b
        refine li_if_ne (tgt := 54) hx hb ⟨by decide, by decide⟩ dX1_feet_36 (by decide) (fun c36 => ?_) (fun c36 => ?_)
        · refine li_iconst hx hb dX1_feet_54 ?_
          refine lv_istore_n (lv' := [(3, .int (ii 1)), (2, .int (ii (σ 5 r1))), (0, .ref (ad 0)), (1, .int (ii r1))]) hx hb dX1_feet_55 rfl hl (by decide) rfl (fun ls hl => ?_)
          refine li_sipush hx hb dX1_feet_56 (by decide) ?_
          refine lv_istore (lv' := [(4, .int (ii 400)), (3, .int (ii 1)), (2, .int (ii (σ 5 r1))), (0, .ref (ad 0)), (1, .int (ii r1))]) hx hb dX1_feet_59 hl (by decide) rfl (fun ls hl => ?_)
          have L61 : ∀ (n : Nat) (hi : Int) (lo : Int) (κa : mem) (g5 : Int → Int) (ga : Int → Int) (gb : Int → Int) (na : Int) (la : Int → Int) (me : Int → Int) (n8 : Int) (qd : Int → Int) (qu : Int → Int) (wT : Int → Int) (qT : Int → Int) (x0 : Int) (_ : g5 = ug (σ 5) r1 x0) (_ : wfS wT qT) (_ : 1 ≤ lo) (_ : lo ≤ hi) (_ : hi ≤ 400) (_ : LD σ (cdv (σ 6) (σ 7)) r1 400) (_ : LD σ (cdv (σ 6) (σ 7)) r1 hi) (_ : ∀ x, 1 ≤ x → x < lo → ¬ LD σ (cdv (σ 6) (σ 7)) r1 x) (_ : (hi - lo).toNat < n) (H : Heap) (locs : List Loc) (_ : va_P G gcl (wD ad ty hv (up σ 5 g5) (up (up (up (up (up (up (up (up (up (up ς 0 ga) 1 gb) 2 (sc (na))) 6 la) 7 me) 8 (sc (n8))) 9 qd) 10 qu) 11 wT) 12 qT) κa ++ cs) H) (_ : va_D A (wD ad ty hv (up σ 5 g5) (up (up (up (up (up (up (up (up (up (up ς 0 ga) 1 gb) 2 (sc (na))) 6 la) 7 me) 8 (sc (n8))) 9 qd) 10 qu) 11 wT) 12 qT) κa ++ cs)) (_ : va_S A s.heap H locs) (ls : Array Slot), lv_has ls 7 [(4, .int (ii hi)), (3, .int (ii lo)), (2, .int (ii (σ 5 r1))), (0, .ref (ad 0)), (1, .int (ii r1))] → W p l e (rm4 7 0 0 166) s m args below meth c H locs 0 0 Q (F0 m 61 ls []) := by
            intro n
            induction n with
            | zero =>
              intro hi lo κa g5 ga gb na la me n8 qd qu wT qT x0 hg5 hT hb0 hb1 hbh hLDx hhi hlo hm
              exact absurd hm (Nat.not_lt_zero _)
            | succ n ih =>
              intro hi lo κa g5 ga gb na la me n8 qd qu wT qT x0 hg5 hT hb0 hb1 hbh hLDx hhi hlo hm H locs hP hD hS ls hl
              refine lv_iload_n hx hb dX1_feet_61 rfl (lv_at hl 1 rfl) ?_
              refine lv_iload hx hb dX1_feet_62 (lv_at hl 0 rfl) ?_
              refine li_icmp_ge (tgt := 118) hx hb ⟨by omega, by omega⟩ ⟨by omega, by omega⟩ dX1_feet_64 (by decide) (fun c64 => ?_) (fun c64 => ?_)
              · refine lv_iload_n hx hb dX1_feet_118 rfl (lv_at hl 1 rfl) ?_
                refine lv_istore (lv' := [(5, .int (ii lo)), (4, .int (ii hi)), (3, .int (ii lo)), (2, .int (ii (σ 5 r1))), (0, .ref (ad 0)), (1, .int (ii r1))]) hx hb dX1_feet_119 hl (by decide) rfl (fun ls hl => ?_)
                refine lv_aload_n hx hb dX1_feet_121 rfl (lv_at hl 4 rfl) ?_
                refine va_get (D := G) (ci := 0) (v := .ref (ad 1)) (C := RX1) (T := TX1) (N := 21) hx hb hts in_X1 hown hK hP 0 (aD_0 _ _ _ _ _ _ _) rfl 0 (by decide) (hts _ q977) (fun _ h9 => h9) rfl dX1_feet_122 ?_
                refine va_get (D := G) (ci := 1) (v := .ref (ad 7)) (C := RX2) (T := TX2) (N := 13) hx hb hts in_X2 hown hK hP 1 (aD_1 _ _ _ _ _ _ _) rfl 7 (by decide) (hts _ q799) (fun _ h9 => h9) rfl dX1_feet_125 ?_
                refine lv_iload_n hx hb dX1_feet_128 rfl (lv_at hl 5 rfl) ?_
                refine lv_iload_n hx hb dX1_feet_129 rfl (lv_at hl 3 rfl) ?_
                refine li_iast (g := g5) (W2 := wD ad ty hv (up σ 5 (ug g5 r1 (σ 5 r1))) (up (up (up (up (up (up (up (up (up (up ς 0 ga) 1 gb) 2 (sc (na))) 6 la) 7 me) 8 (sc (n8))) 9 qd) 10 qu) 11 wT) 12 qT) κa ++ cs) hx hb hK hP hD hS 7 0 (aD_7 _ _ _ _ _ _ _) rfl (by omega) (by omega) (by decide) rfl dX1_feet_130 (fun H locs hP hD hS => ?_)
                have hgs : ug g5 r1 (σ 5 r1) = σ 5 := by rw [hg5]; rw [ug_ug]; exact ug_same rfl
                rw [hgs, up_id] at hP hD
                refine lv_iload hx hb dX1_feet_131 (lv_at hl 0 rfl) ?_
                exact eMi hQ hx hb hr hlk hP hD hS (Nat.le_of_ble_eq_true rfl) (Nat.le_of_ble_eq_true rfl) dX1_feet_133 (⟨lo, ga, gb, na, la, me, n8, qd, qu, wT, qT, κa, rfl, rfl, hT, .inr ⟨hb2, .inr ⟨hLDx, by omega, by omega, by rw [show lo = hi by omega]; exact hhi, hlo⟩⟩⟩)
              · refine lv_aload_n hx hb dX1_feet_67 rfl (lv_at hl 3 rfl) ?_
                refine va_get (D := G) (ci := 0) (v := .ref (ad 1)) (C := RX1) (T := TX1) (N := 21) hx hb hts in_X1 hown hK hP 0 (aD_0 _ _ _ _ _ _ _) rfl 0 (by decide) (hts _ q977) (fun _ h9 => h9) rfl dX1_feet_68 ?_
                refine va_get (D := G) (ci := 1) (v := .ref (ad 7)) (C := RX2) (T := TX2) (N := 13) hx hb hts in_X2 hown hK hP 1 (aD_1 _ _ _ _ _ _ _) rfl 7 (by decide) (hts _ q799) (fun _ h9 => h9) rfl dX1_feet_71 ?_
                refine lv_iload_n hx hb dX1_feet_74 rfl (lv_at hl 4 rfl) ?_
                refine lv_iload_n hx hb dX1_feet_75 rfl (lv_at hl 1 rfl) ?_
                refine lv_iload hx hb dX1_feet_76 (lv_at hl 0 rfl) ?_
                refine li_add hx hb dX1_feet_78 ?_
                refine li_iconst hx hb dX1_feet_79 ?_
                refine li_div hx hb (by omega) (by omega) (by omega) (by omega) dX1_feet_80 ?_
                refine li_iast (g := g5) (W2 := wD ad ty hv (up σ 5 (ug g5 r1 ((lo + hi) / 2))) (up (up (up (up (up (up (up (up (up (up ς 0 ga) 1 gb) 2 (sc (na))) 6 la) 7 me) 8 (sc (n8))) 9 qd) 10 qu) 11 wT) 12 qT) κa ++ cs) hx hb hK hP hD hS 7 0 (aD_7 _ _ _ _ _ _ _) rfl (by omega) (by omega) (by decide) rfl dX1_feet_81 (fun H locs hP hD hS => ?_)
                refine lv_aload_n hx hb dX1_feet_82 rfl (lv_at hl 3 rfl) ?_
                refine kM (va_runV (As := []) (rest := []) ⟨hx, hb, hml, hown, hts⟩ ((m_leadsDown l G ad ty hv (up σ 5 (ug g5 r1 ((lo + hi) / 2))) (up (up (up (up (up (up (up (up (up (up ς 0 ga) 1 gb) 2 (sc (na))) 6 la) 7 me) 8 (sc (n8))) 9 qd) 10 qu) 11 wT) 12 qT) κa cs (show okF (up σ 5 (ug g5 r1 ((lo + hi) / 2))) from by rw [hg5, ug_ug]; exact lenF_ok hF (by omega)) (show wfS wT qT from hT)) H.size) (cwV 0 hts (lw_V q714 q716 qs33 q76 q717) rfl rfl rfl (by decide +kernel) ⟨Nat.le_of_ble_eq_true rfl, Nat.le_of_ble_eq_true rfl⟩) (pvM (r := (RX1, TX1, 21)) hK hP hD hX 0 (aD_0 _ _ _ _ _ _ _) rfl) rfl rfl hl.1 rfl (lv_room (Nat.le_of_ble_eq_true rfl)) dX1_feet_83 ⟨Nat.le_of_ble_eq_true rfl, Nat.le_of_ble_eq_true rfl⟩) hD hS hA (fun v ws1 H locs hv hP hD hS => ?_)
                obtain ⟨z83, ga83, gb83, na83, la83, me83, n883, qd83, qu83, wT83, qT83, κ83, rfl, rfl, hT83, ⟨rfl, hb83⟩ | ⟨rfl, hb83⟩⟩ := hv
                · have hP : va_P G gcl (wD ad ty hv (up σ 5 (ug g5 r1 ((lo + hi) / 2))) (up (up (up (up (up (up (up (up (up (up ς 0 ga83) 1 gb83) 2 (sc (na83))) 6 la83) 7 me83) 8 (sc (n883))) 9 qd83) 10 qu83) 11 wT83) 12 qT83) κ83 ++ cs) H := hP
                  have hD : va_D A (wD ad ty hv (up σ 5 (ug g5 r1 ((lo + hi) / 2))) (up (up (up (up (up (up (up (up (up (up ς 0 ga83) 1 gb83) 2 (sc (na83))) 6 la83) 7 me83) 8 (sc (n883))) 9 qd83) 10 qu83) 11 wT83) 12 qT83) κ83 ++ cs) := hD
                  have hT83 : wfS wT83 qT83 := hT83
                  have hb83 : ∃ z, IsSoon (up σ 5 (ug g5 r1 ((lo + hi) / 2))) (cdv (σ 6) (σ 7)) z ∧ ¬ z = -4 := hb83
                  rw [hg5, ug_ug] at hb83
                  have hLD2 : LD σ (cdv (σ 6) (σ 7)) r1 ((lo + hi) / 2) := by obtain ⟨z, a, b⟩ := hb83; exact LD_of (lenF_wf hW (by omega)) a b
                  refine li_if_eq (tgt := 103) hx hb ⟨by decide, by decide⟩ dX1_feet_86 (by decide) (fun c86 => ?_) (fun c86 => ?_)
                  · exact absurd c86 (by decide)
                  · refine lv_aload_n hx hb dX1_feet_89 rfl (lv_at hl 3 rfl) ?_
                    refine va_get (D := G) (ci := 0) (v := .ref (ad 1)) (C := RX1) (T := TX1) (N := 21) hx hb hts in_X1 hown hK hP 0 (aD_0 _ _ _ _ _ _ _) rfl 0 (by decide) (hts _ q977) (fun _ h9 => h9) rfl dX1_feet_90 ?_
                    refine va_get (D := G) (ci := 1) (v := .ref (ad 7)) (C := RX2) (T := TX2) (N := 13) hx hb hts in_X2 hown hK hP 1 (aD_1 _ _ _ _ _ _ _) rfl 7 (by decide) (hts _ q799) (fun _ h9 => h9) rfl dX1_feet_93 ?_
                    refine lv_iload_n hx hb dX1_feet_96 rfl (lv_at hl 4 rfl) ?_
                    refine li_iald (g := (ug g5 r1 ((lo + hi) / 2))) hx hb hK hP 7 0 (aD_7 _ _ _ _ _ _ _) rfl (by omega) (by omega) (by decide) dX1_feet_97 ?_
                    refine li_top (b := ((lo + hi) / 2)) (ug_s _ _ _) ?_
                    refine lv_istore (lv' := [(4, .int (ii ((lo + hi) / 2))), (3, .int (ii lo)), (2, .int (ii (σ 5 r1))), (0, .ref (ad 0)), (1, .int (ii r1))]) hx hb dX1_feet_98 hl (by decide) rfl (fun ls hl => ?_)
                    refine lv_goto (tgt := 61) hx hb dX1_feet_100 (by decide) ?_
                    exact ih ((lo + hi) / 2) lo κ83 (ug g5 r1 ((lo + hi) / 2)) ga83 gb83 na83 la83 me83 n883 qd83 qu83 wT83 qT83 (((lo + hi) / 2)) (by rw [hg5, ug_ug]) (hT83) (by omega) (by omega) (by omega) (hLDx) (hLD2) (hlo) (by omega) H locs hP hD hS ls (lv_sub hl [0, 1, 2, 3, 4] rfl)
                · have hP : va_P G gcl (wD ad ty hv (up σ 5 (ug g5 r1 ((lo + hi) / 2))) (up (up (up (up (up (up (up (up (up (up ς 0 ga83) 1 gb83) 2 (sc (na83))) 6 la83) 7 me83) 8 (sc (n883))) 9 qd83) 10 qu83) 11 wT83) 12 qT83) κ83 ++ cs) H := hP
                  have hD : va_D A (wD ad ty hv (up σ 5 (ug g5 r1 ((lo + hi) / 2))) (up (up (up (up (up (up (up (up (up (up ς 0 ga83) 1 gb83) 2 (sc (na83))) 6 la83) 7 me83) 8 (sc (n883))) 9 qd83) 10 qu83) 11 wT83) 12 qT83) κ83 ++ cs) := hD
                  have hT83 : wfS wT83 qT83 := hT83
                  have hb83 : IsSoon (up σ 5 (ug g5 r1 ((lo + hi) / 2))) (cdv (σ 6) (σ 7)) (-4) := hb83
                  rw [hg5, ug_ug] at hb83
                  have hLD0 : ¬ LD σ (cdv (σ 6) (σ 7)) r1 ((lo + hi) / 2) := LD_no (lenF_wf hW (by omega)) hb83
                  refine li_if_eq (tgt := 103) hx hb ⟨by decide, by decide⟩ dX1_feet_86 (by decide) (fun c86 => ?_) (fun c86 => ?_)
                  · refine lv_aload_n hx hb dX1_feet_103 rfl (lv_at hl 3 rfl) ?_
                    refine va_get (D := G) (ci := 0) (v := .ref (ad 1)) (C := RX1) (T := TX1) (N := 21) hx hb hts in_X1 hown hK hP 0 (aD_0 _ _ _ _ _ _ _) rfl 0 (by decide) (hts _ q977) (fun _ h9 => h9) rfl dX1_feet_104 ?_
                    refine va_get (D := G) (ci := 1) (v := .ref (ad 7)) (C := RX2) (T := TX2) (N := 13) hx hb hts in_X2 hown hK hP 1 (aD_1 _ _ _ _ _ _ _) rfl 7 (by decide) (hts _ q799) (fun _ h9 => h9) rfl dX1_feet_107 ?_
                    refine lv_iload_n hx hb dX1_feet_110 rfl (lv_at hl 4 rfl) ?_
                    refine li_iald (g := (ug g5 r1 ((lo + hi) / 2))) hx hb hK hP 7 0 (aD_7 _ _ _ _ _ _ _) rfl (by omega) (by omega) (by decide) dX1_feet_111 ?_
                    refine li_top (b := ((lo + hi) / 2)) (ug_s _ _ _) ?_
                    refine li_iconst hx hb dX1_feet_112 ?_
                    refine li_add hx hb dX1_feet_113 ?_
                    refine lv_istore_n (lv' := [(3, .int (ii ((lo + hi) / 2 + 1))), (4, .int (ii hi)), (2, .int (ii (σ 5 r1))), (0, .ref (ad 0)), (1, .int (ii r1))]) hx hb dX1_feet_114 rfl hl (by decide) rfl (fun ls hl => ?_)
                    refine lv_goto (tgt := 61) hx hb dX1_feet_115 (by decide) ?_
                    exact ih hi ((lo + hi) / 2 + 1) κ83 (ug g5 r1 ((lo + hi) / 2)) ga83 gb83 na83 la83 me83 n883 qd83 qu83 wT83 qT83 (((lo + hi) / 2)) (by rw [hg5, ug_ug]) (hT83) (by omega) (by omega) (by omega) (hLDx) (hhi) (fun x x1 x2 => fun q => hLD0 (LD_mono hst0 (lenF_wf hW (by omega)) (by omega) q)) (by omega) H locs hP hD hS ls (lv_sub hl [1, 0, 2, 3, 4] rfl)
                  · exact absurd c86 (by decide)
          exact L61 _ 400 1 κ33 (ug (σ 5) r1 400) ga33 gb33 na33 la33 me33 n833 qd33 qu33 wT33 qT33 400 (rfl) (hT33) (by omega) (by omega) (Int.le_refl _) (hLD1) (hLD1) (fun x a b => by omega) (Nat.lt_succ_self _) H locs hP hD hS ls (lv_sub hl [0, 1, 2, 3, 4] rfl)
        · exact absurd c36 (by decide)
      · have hP : va_P G gcl (wD ad ty hv (up σ 5 (ug (σ 5) r1 400)) (up (up (up (up (up (up (up (up (up (up ς 0 ga33) 1 gb33) 2 (sc (na33))) 6 la33) 7 me33) 8 (sc (n833))) 9 qd33) 10 qu33) 11 wT33) 12 qT33) κ33 ++ cs) H := hP
        have hD : va_D A (wD ad ty hv (up σ 5 (ug (σ 5) r1 400)) (up (up (up (up (up (up (up (up (up (up ς 0 ga33) 1 gb33) 2 (sc (na33))) 6 la33) 7 me33) 8 (sc (n833))) 9 qd33) 10 qu33) 11 wT33) 12 qT33) κ33 ++ cs) := hD
        have hT33 : wfS wT33 qT33 := hT33
        have hb33 : IsSoon (up σ 5 (ug (σ 5) r1 400)) (cdv (σ 6) (σ 7)) (-4) := hb33
        have hLD0 : ¬ LD σ (cdv (σ 6) (σ 7)) r1 400 := LD_no (lenF_wf hW (by decide)) hb33
        refine li_if_ne (tgt := 54) hx hb ⟨by decide, by decide⟩ dX1_feet_36 (by decide) (fun c36 => ?_) (fun c36 => ?_)
        · exact absurd c36 (by decide)
        · refine li_bipush hx hb dX1_feet_39 (by decide) ?_
          refine lv_istore_n (lv' := [(3, .int (ii (-4))), (2, .int (ii (σ 5 r1))), (0, .ref (ad 0)), (1, .int (ii r1))]) hx hb dX1_feet_41 rfl hl (by decide) rfl (fun ls hl => ?_)
          refine lv_aload_n hx hb dX1_feet_42 rfl (lv_at hl 2 rfl) ?_
          refine va_get (D := G) (ci := 0) (v := .ref (ad 1)) (C := RX1) (T := TX1) (N := 21) hx hb hts in_X1 hown hK hP 0 (aD_0 _ _ _ _ _ _ _) rfl 0 (by decide) (hts _ q977) (fun _ h9 => h9) rfl dX1_feet_43 ?_
          refine va_get (D := G) (ci := 1) (v := .ref (ad 7)) (C := RX2) (T := TX2) (N := 13) hx hb hts in_X2 hown hK hP 1 (aD_1 _ _ _ _ _ _ _) rfl 7 (by decide) (hts _ q799) (fun _ h9 => h9) rfl dX1_feet_46 ?_
          refine lv_iload_n hx hb dX1_feet_49 rfl (lv_at hl 3 rfl) ?_
          refine lv_iload_n hx hb dX1_feet_50 rfl (lv_at hl 1 rfl) ?_
          refine li_iast (g := (ug (σ 5) r1 400)) (W2 := wD ad ty hv (up σ 5 (ug (ug (σ 5) r1 400) r1 (σ 5 r1))) (up (up (up (up (up (up (up (up (up (up ς 0 ga33) 1 gb33) 2 (sc (na33))) 6 la33) 7 me33) 8 (sc (n833))) 9 qd33) 10 qu33) 11 wT33) 12 qT33) κ33 ++ cs) hx hb hK hP hD hS 7 0 (aD_7 _ _ _ _ _ _ _) rfl (by omega) (by omega) (by decide) rfl dX1_feet_51 (fun H locs hP hD hS => ?_)
          have hgs : ug (ug (σ 5) r1 400) r1 (σ 5 r1) = σ 5 := by rw [ug_ug]; exact ug_same rfl
          rw [hgs, up_id] at hP hD
          refine lv_iload_n hx hb dX1_feet_52 rfl (lv_at hl 0 rfl) ?_
          exact eMi hQ hx hb hr hlk hP hD hS (Nat.le_of_ble_eq_true rfl) (Nat.le_of_ble_eq_true rfl) dX1_feet_53 (⟨-4, ga33, gb33, na33, la33, me33, n833, qd33, qu33, wT33, qT33, κ33, rfl, rfl, hT33, .inr ⟨hb2, .inl ⟨rfl, hLD0⟩⟩⟩)
    · exact absurd c5 (by decide)
  · have hb2 : ¬ (0 ≤ r1 ∧ r1 < (σ 10 0)) := hb2
    refine li_if_ne (tgt := 10) hx hb ⟨by decide, by decide⟩ dX1_feet_5 (by decide) (fun c5 => ?_) (fun c5 => ?_)
    · exact absurd c5 (by decide)
    · refine li_iconst hx hb dX1_feet_8 ?_
      exact eMi hQ hx hb hr hlk hP hD hS (Nat.le_of_ble_eq_true rfl) (Nat.le_of_ble_eq_true rfl) dX1_feet_9 (⟨-1, (ς 0), (ς 1), ς 2 0, (ς 6), (ς 7), ς 8 0, (ς 9), (ς 10), (ς 11), (ς 12), κ, rfl, rfl, hT, .inl ⟨hb2, rfl⟩⟩)
