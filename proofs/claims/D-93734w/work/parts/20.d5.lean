/-! DownRope: isDown, soonestOf, soonest, states, leadsDown, isPerson, isRope, hurt, leftIn, fewest, left, dusk (written by gen/d5.py) -/
set_option maxRecDepth 100000
theorem rg4 {z : Int} (h : -4 ≤ z ∧ z ≤ 1000000000) : rg z := ⟨by omega, by omega⟩
set_option maxHeartbeats 4000000 in
theorem m_isDown (l : Launch) (G : va_G) (ad : Nat → Nat) (ty : Nat → ClassId) (hv : Nat → Option Nat) (σ ς κ : mem) (cs : va_W) (c1 : Int)  (hF : okF σ) (hT : wfS (ς 11) (ς 12)) (hc : inSt c1) : cM l yX1_isDown (ws_ yX1_isDown cX1_isDown 2 (some .boolean)) (rm4 2 0 0 42) G ty (wD ad ty hv σ ς κ ++ cs) [.ref (ad 0), .int (ii c1)] 0 0 (fun r W' => ∃ (z : Int) (wT : Int → Int) (qT : Int → Int) (κ' : mem), r = some (.int (ii z)) ∧ W' = wD ad ty hv σ (up (up ς 11 wT) 12 qT) κ' ++ cs ∧ (wfS wT qT) ∧ ((z = 1 ∧ (dn σ c1)) ∨ (z = 0 ∧ (¬ dn σ c1)))) := by
  refine cM.of (by decide) (Nat.le_of_ble_eq_true rfl) ?_
  intro p e s m args below meth c A Q H locs hQ hx hb hr hml hown hlk hname hts hK hP hD hS hA hX ls hl
  have hl : lv_has ls 2 [(0, .ref (ad 0)), (1, .int (ii c1))] := hl
  have hW : wfF σ := hF.1
  have hT2 : wfS (dcw c1 (ς 11)) (dcq c1 (ς 12)) := ⟨dcw_b hT.1, dcq_b hT.2⟩
  refine lv_aload_n hx hb dX1_isDown_0 rfl (lv_at hl 0 rfl) ?_
  refine va_get (D := G) (ci := 0) (v := .ref (ad 48)) (C := RX1) (T := TX1) (N := 21) hx hb hts in_X1 hown hK hP 0 (aD_0 _ _ _ _ _ _ _) rfl 15 (by decide) (hts _ q992) (fun _ h9 => h9) rfl dX1_isDown_1 ?_
  refine lv_iload_n hx hb dX1_isDown_4 rfl (lv_at hl 1 rfl) ?_
  refine kM (va_runV (As := [.int (ii c1)]) (rest := []) ⟨hx, hb, hml, hown, hts⟩ (m_decodes l G ty (wD ad ty hv σ ς κ ++ cs) (fun k => 48 + k) (fun k => ad (48 + k)) (ς 11) (ς 12) c1 ⟨rfl, rfl, rfl⟩ hc (by decide) (by decide) (by decide) (by decide) H.size) (cwV 1 hts (lw_V q626 q627 q628 q78 q629) rfl rfl rfl (by decide +kernel) ⟨Nat.le_of_ble_eq_true rfl, Nat.le_of_ble_eq_true rfl⟩) (pvM (r := (RX3, TX3, 2)) hK hP hD hX 48 (aD_48 _ _ _ _ _ _ _) rfl) rfl rfl hl.1 rfl (lv_room (Nat.le_of_ble_eq_true rfl)) dX1_isDown_5 ⟨Nat.le_of_ble_eq_true rfl, Nat.le_of_ble_eq_true rfl⟩) hD hS hA (fun v ws1 H locs hv hP hD hS => ?_)
  obtain ⟨rfl, rfl⟩ := hv
  have hP : va_P G gcl (wD ad ty hv σ (up (up ς 11 (dcw c1 (ς 11))) 12 (dcq c1 (ς 12))) κ ++ cs) H := hP
  have hD : va_D A (wD ad ty hv σ (up (up ς 11 (dcw c1 (ς 11))) 12 (dcq c1 (ς 12))) κ ++ cs) := hD
  refine lv_aload_n hx hb dX1_isDown_8 rfl (lv_at hl 0 rfl) ?_
  refine va_get (D := G) (ci := 0) (v := .ref (ad 1)) (C := RX1) (T := TX1) (N := 21) hx hb hts in_X1 hown hK hP 0 (aD_0 _ _ _ _ _ _ _) rfl 0 (by decide) (hts _ q977) (fun _ h9 => h9) rfl dX1_isDown_9 ?_
  refine lv_aload_n hx hb dX1_isDown_12 rfl (lv_at hl 0 rfl) ?_
  refine va_get (D := G) (ci := 0) (v := .ref (ad 48)) (C := RX1) (T := TX1) (N := 21) hx hb hts in_X1 hown hK hP 0 (aD_0 _ _ _ _ _ _ _) rfl 15 (by decide) (hts _ q992) (fun _ h9 => h9) rfl dX1_isDown_13 ?_
  refine kR (va_runV (As := [.ref (ad 48)]) (rest := []) ⟨hx, hb, hml, hown, hts⟩ (m_isDownF l G ty (wD ad ty hv σ (up (up ς 11 (dcw c1 (ς 11))) 12 (dcq c1 (ς 12))) κ ++ cs) (fun k => 1 + k) (fun k => ad (1 + k)) σ (fun k => 48 + k) (fun k => ad (48 + k)) (dcw c1 (ς 11)) (dcq c1 (ς 12))  ⟨rfl, rfl, rfl, rfl, rfl, rfl, rfl⟩ (hW) ⟨rfl, rfl, rfl⟩ (hT2)) (cwV 1 hts (lw_V q595 q596 q597 q77 q598) rfl rfl rfl (by decide +kernel) ⟨Nat.le_of_ble_eq_true rfl, Nat.le_of_ble_eq_true rfl⟩) (pvR (r := (RX2, TX2, 13)) hK hP hD hX 1 (aD_1 _ _ _ _ _ _ _) rfl) rfl rfl hl.1 rfl (lv_room (Nat.le_of_ble_eq_true rfl)) dX1_isDown_16 ⟨Nat.le_of_ble_eq_true rfl, Nat.le_of_ble_eq_true rfl⟩) (fun v hv => ?_)
  obtain ⟨z16, rfl, ⟨rfl, hb16⟩ | ⟨rfl, hb16⟩⟩ := hv
  · have hb16 : dn σ c1 := (dn_iff (dc_dig _ _)).mp hb16
    exact eMz hQ hx hb hr hlk hP hD hS (Nat.le_of_ble_eq_true rfl) (Nat.le_of_ble_eq_true rfl) dX1_isDown_19 (.inr rfl) (⟨1, (dcw c1 (ς 11)), (dcq c1 (ς 12)), κ, rfl, rfl, hT2, .inl ⟨rfl, hb16⟩⟩)
  · have hb16 : ¬ dn σ c1 := fun q => hb16 ((dn_iff (dc_dig _ _)).mpr q)
    exact eMz hQ hx hb hr hlk hP hD hS (Nat.le_of_ble_eq_true rfl) (Nat.le_of_ble_eq_true rfl) dX1_isDown_19 (.inl rfl) (⟨0, (dcw c1 (ς 11)), (dcq c1 (ς 12)), κ, rfl, rfl, hT2, .inr ⟨rfl, hb16⟩⟩)
set_option maxHeartbeats 4000000 in
theorem m_soonestOf (l : Launch) (G : va_G) (ad : Nat → Nat) (ty : Nat → ClassId) (hv : Nat → Option Nat) (σ ς κ : mem) (cs : va_W)  (E : edge) (s1 : Int) (hF : okF σ) (hT : wfS (ς 11) (ς 12)) (hM : Mt E s1 (ς 6) (ς 7) (ς 8 0)) : cM l yX1_soonestOf (ws_ yX1_soonestOf cX1_soonestOf 3 (some .int)) (rm4 3 0 0 63) G ty (wD ad ty hv σ ς κ ++ cs) [.ref (ad 0)] 0 0 (fun r W' => ∃ (z : Int) (wT : Int → Int) (qT : Int → Int) (κ' : mem), r = some (.int (ii z)) ∧ W' = wD ad ty hv σ (up (up ς 11 wT) 12 qT) κ' ++ cs ∧ (wfS wT qT) ∧ (soonP (dn σ) (ς 6) z) ∧ (-4 ≤ z ∧ z ≤ 1000000000)) := by
  refine cM.of (by decide) (Nat.le_of_ble_eq_true rfl) ?_
  intro p e s m args below meth c A Q H locs hQ hx hb hr hml hown hlk hname hts hK hP hD hS hA hX ls hl
  have hl : lv_has ls 3 [(0, .ref (ad 0))] := hl
  have hn1 := hM.n1
  have hn2 := hM.n2
  refine lv_ldc (v := ii 1000000000) hx hb hown (hts _ q617) dX1_soonestOf_0 ?_
  refine lv_istore_n (lv' := [(1, .int (ii 1000000000)), (0, .ref (ad 0))]) hx hb dX1_soonestOf_2 rfl hl (by decide) rfl (fun ls hl => ?_)
  refine li_iconst hx hb dX1_soonestOf_3 ?_
  refine lv_istore_n (lv' := [(2, .int (ii 0)), (1, .int (ii 1000000000)), (0, .ref (ad 0))]) hx hb dX1_soonestOf_4 rfl hl (by decide) rfl (fun ls hl => ?_)
  have L5 : ∀ (n : Nat) (j1 : Int) (b1 : Int) (κa : mem) (wT : Int → Int) (qT : Int → Int) (_ : wfS wT qT) (_ : 0 ≤ j1) (_ : j1 ≤ ς 8 0) (_ : 0 ≤ b1) (_ : b1 ≤ 1000000000) (_ : soonI (dn σ) (ς 6) (ς 7) j1 b1) (_ : (ς 8 0 - j1).toNat < n) (H : Heap) (locs : List Loc) (_ : va_P G gcl (wD ad ty hv σ (up (up ς 11 wT) 12 qT) κa ++ cs) H) (_ : va_D A (wD ad ty hv σ (up (up ς 11 wT) 12 qT) κa ++ cs)) (_ : va_S A s.heap H locs) (ls : Array Slot), lv_has ls 3 [(2, .int (ii j1)), (1, .int (ii b1)), (0, .ref (ad 0))] → W p l e (rm4 3 0 0 63) s m args below meth c H locs 0 0 Q (F0 m 5 ls []) := by
    intro n
    induction n with
    | zero =>
      intro j1 b1 κa wT qT hT hj0 hj1 hb1a hb1b hbs hm
      exact absurd hm (Nat.not_lt_zero _)
    | succ n ih =>
      intro j1 b1 κa wT qT hT hj0 hj1 hb1a hb1b hbs hm H locs hP hD hS ls hl
      refine lv_iload_n hx hb dX1_soonestOf_5 rfl (lv_at hl 0 rfl) ?_
      refine lv_aload_n hx hb dX1_soonestOf_6 rfl (lv_at hl 2 rfl) ?_
      refine va_get (D := G) (ci := 0) (v := .int (ii (ς 8 0))) (C := RX1) (T := TX1) (N := 21) hx hb hts in_X1 hown hK hP 0 (aD_0 _ _ _ _ _ _ _) rfl 12 (by decide) (hts _ q989) (fun _ h9 => h9) rfl dX1_soonestOf_7 ?_
      refine li_icmp_ge (tgt := 48) hx hb ⟨by omega, by omega⟩ ⟨by omega, by omega⟩ dX1_soonestOf_10 (by decide) (fun c10 => ?_) (fun c10 => ?_)
      · refine lv_iload_n hx hb dX1_soonestOf_48 rfl (lv_at hl 1 rfl) ?_
        refine lv_ldc (v := ii 1000000000) hx hb hown (hts _ q617) dX1_soonestOf_49 ?_
        refine li_icmp_ne (tgt := 59) hx hb (rgi hb1a hb1b) ⟨by decide, by decide⟩ dX1_soonestOf_51 (by decide) (fun c51 => ?_) (fun c51 => ?_)
        · refine lv_iload_n hx hb dX1_soonestOf_59 rfl (lv_at hl 1 rfl) ?_
          exact eMi hQ hx hb hr hlk hP hD hS (Nat.le_of_ble_eq_true rfl) (Nat.le_of_ble_eq_true rfl) dX1_soonestOf_60 (⟨b1, wT, qT, κa, rfl, rfl, hT, soonI_z hM hbs hj1 (by omega) c51, ⟨by omega, by omega⟩⟩)
        · refine li_bipush hx hb dX1_soonestOf_54 (by decide) ?_
          refine lv_goto (tgt := 60) hx hb dX1_soonestOf_56 (by decide) ?_
          exact eMi hQ hx hb hr hlk hP hD hS (Nat.le_of_ble_eq_true rfl) (Nat.le_of_ble_eq_true rfl) dX1_soonestOf_60 (⟨-4, wT, qT, κa, rfl, rfl, hT, soonI_e hM hbs (by omega) c51, ⟨by decide, by decide⟩⟩)
      · have hmk := (hM.mt j1 hj0 c10).1
        obtain ⟨hmk0, hmk1⟩ := id hmk
        have hmr := hM.rg hmk
        have hlt := hM.lt hmk (hM.mt j1 hj0 c10).2
        refine lv_aload_n hx hb dX1_soonestOf_13 rfl (lv_at hl 2 rfl) ?_
        refine lv_aload_n hx hb dX1_soonestOf_14 rfl (lv_at hl 2 rfl) ?_
        refine va_get (D := G) (ci := 0) (v := .ref (ad 45)) (C := RX1) (T := TX1) (N := 21) hx hb hts in_X1 hown hK hP 0 (aD_0 _ _ _ _ _ _ _) rfl 11 (by decide) (hts _ q988) (fun _ h9 => h9) rfl dX1_soonestOf_15 ?_
        refine lv_iload_n hx hb dX1_soonestOf_18 rfl (lv_at hl 0 rfl) ?_
        refine li_iald (g := (ς 7)) hx hb hK hP 45 0 (aD_45 _ _ _ _ _ _ _) rfl (by omega) (by omega) (by decide) dX1_soonestOf_19 ?_
        refine kM (va_runV (As := [.int (ii (ς 7 j1))]) (rest := []) ⟨hx, hb, hml, hown, hts⟩ ((m_isDown l G ad ty hv σ (up (up ς 11 wT) 12 qT) κa cs (ς 7 j1) (show okF σ from hF) (show wfS wT qT from hT) (show inSt (ς 7 j1) from (hM.mt j1 hj0 c10).1)) H.size) (cwV 1 hts (lw_V q638 q640 qs27 q76 q641) rfl rfl rfl (by decide +kernel) ⟨Nat.le_of_ble_eq_true rfl, Nat.le_of_ble_eq_true rfl⟩) (pvM (r := (RX1, TX1, 21)) hK hP hD hX 0 (aD_0 _ _ _ _ _ _ _) rfl) rfl rfl hl.1 rfl (lv_room (Nat.le_of_ble_eq_true rfl)) dX1_soonestOf_20 ⟨Nat.le_of_ble_eq_true rfl, Nat.le_of_ble_eq_true rfl⟩) hD hS hA (fun v ws1 H locs hv hP hD hS => ?_)
        obtain ⟨z20, wT20, qT20, κ20, rfl, rfl, hT20, ⟨rfl, hb20⟩ | ⟨rfl, hb20⟩⟩ := hv
        · have hP : va_P G gcl (wD ad ty hv σ (up (up ς 11 wT20) 12 qT20) κ20 ++ cs) H := hP
          have hD : va_D A (wD ad ty hv σ (up (up ς 11 wT20) 12 qT20) κ20 ++ cs) := hD
          have hT20 : wfS wT20 qT20 := hT20
          have hb20 : dn σ (ς 7 j1) := hb20
          refine li_if_eq (tgt := 42) hx hb ⟨by decide, by decide⟩ dX1_soonestOf_23 (by decide) (fun c23 => ?_) (fun c23 => ?_)
          · exact absurd c23 (by decide)
          · refine lv_iload_n hx hb dX1_soonestOf_26 rfl (lv_at hl 1 rfl) ?_
            refine lv_aload_n hx hb dX1_soonestOf_27 rfl (lv_at hl 2 rfl) ?_
            refine va_get (D := G) (ci := 0) (v := .ref (ad 44)) (C := RX1) (T := TX1) (N := 21) hx hb hts in_X1 hown hK hP 0 (aD_0 _ _ _ _ _ _ _) rfl 10 (by decide) (hts _ q987) (fun _ h9 => h9) rfl dX1_soonestOf_28 ?_
            refine lv_aload_n hx hb dX1_soonestOf_31 rfl (lv_at hl 2 rfl) ?_
            refine va_get (D := G) (ci := 0) (v := .ref (ad 45)) (C := RX1) (T := TX1) (N := 21) hx hb hts in_X1 hown hK hP 0 (aD_0 _ _ _ _ _ _ _) rfl 11 (by decide) (hts _ q988) (fun _ h9 => h9) rfl dX1_soonestOf_32 ?_
            refine lv_iload_n hx hb dX1_soonestOf_35 rfl (lv_at hl 0 rfl) ?_
            refine li_iald (g := (ς 7)) hx hb hK hP 45 0 (aD_45 _ _ _ _ _ _ _) rfl (by omega) (by omega) (by decide) dX1_soonestOf_36 ?_
            refine li_iald (g := (ς 6)) hx hb hK hP 44 0 (aD_44 _ _ _ _ _ _ _) rfl (by omega) (by omega) (by decide) dX1_soonestOf_37 ?_
            refine va_mmin hx hb (hml.trans hl.1.symm) hown (hts _ q642) (hts _ q401) (hts _ q94) (hts _ q402) (Nat.le_of_ble_eq_true rfl) (Nat.le_of_ble_eq_true rfl) (Nat.le_of_ble_eq_true rfl) (Nat.le_of_ble_eq_true rfl) dX1_soonestOf_38 ?_
            refine li_topx (z := lower b1 (ς 6 (ς 7 j1))) (ii_min (rgi hb1a hb1b) ⟨by omega, by omega⟩) ?_
            refine lv_istore_n (lv' := [(1, .int (ii (lower b1 (ς 6 (ς 7 j1))))), (2, .int (ii j1)), (0, .ref (ad 0))]) hx hb dX1_soonestOf_41 rfl hl (by decide) rfl (fun ls hl => ?_)
            refine li_iinc (a := j1) (lv' := [(2, .int (ii (j1 + 1))), (1, .int (ii (lower b1 (ς 6 (ς 7 j1))))), (0, .ref (ad 0))]) hx hb dX1_soonestOf_42 hl (k := 1) rfl (by decide) rfl (fun ls hl => ?_)
            refine lv_goto (tgt := 5) hx hb dX1_soonestOf_45 (by decide) ?_
            exact ih (j1 + 1) (lower b1 (ς 6 (ς 7 j1))) κ20 wT20 qT20 (hT20) (by omega) (by omega) (by unfold lower; omega) (by unfold lower; omega) (soonI_s hbs hb20 hlt.2.2 hj0) (by omega) H locs hP hD hS ls (lv_sub hl [0, 1, 2] rfl)
        · have hP : va_P G gcl (wD ad ty hv σ (up (up ς 11 wT20) 12 qT20) κ20 ++ cs) H := hP
          have hD : va_D A (wD ad ty hv σ (up (up ς 11 wT20) 12 qT20) κ20 ++ cs) := hD
          have hT20 : wfS wT20 qT20 := hT20
          have hb20 : ¬ dn σ (ς 7 j1) := hb20
          refine li_if_eq (tgt := 42) hx hb ⟨by decide, by decide⟩ dX1_soonestOf_23 (by decide) (fun c23 => ?_) (fun c23 => ?_)
          · refine li_iinc (a := j1) (lv' := [(2, .int (ii (j1 + 1))), (1, .int (ii b1)), (0, .ref (ad 0))]) hx hb dX1_soonestOf_42 hl (k := 0) rfl (by decide) rfl (fun ls hl => ?_)
            refine lv_goto (tgt := 5) hx hb dX1_soonestOf_45 (by decide) ?_
            exact ih (j1 + 1) b1 κ20 wT20 qT20 (hT20) (by omega) (by omega) (hb1a) (hb1b) (soonI_n hbs hb20) (by omega) H locs hP hD hS ls (lv_sub hl [0, 1, 2] rfl)
          · exact absurd c23 (by decide)
  exact L5 _ 0 1000000000 κ (ς 11) (ς 12) (hT) (by omega) (by omega) (by omega) (by omega) (soonI_0 _ _ _) (Nat.lt_succ_self _) H locs hP hD hS ls (lv_sub hl [0, 1, 2] rfl)
set_option maxHeartbeats 4000000 in
theorem m_soonest (l : Launch) (G : va_G) (ad : Nat → Nat) (ty : Nat → ClassId) (hv : Nat → Option Nat) (σ ς κ : mem) (cs : va_W)   (hF : okF σ) (hT : wfS (ς 11) (ς 12)) : cM l yX1_soonest (ws_ yX1_soonest cX1_soonest 1 (some .int)) (rm4 6 0 0 146) G ty (wD ad ty hv σ ς κ ++ cs) [.ref (ad 0)] 0 0 (fun r W' => ∃ (z : Int) (ga : Int → Int) (gb : Int → Int) (na : Int) (la : Int → Int) (me : Int → Int) (n8 : Int) (qd : Int → Int) (qu : Int → Int) (wT : Int → Int) (qT : Int → Int) (κ' : mem), r = some (.int (ii z)) ∧ W' = wD ad ty hv σ (up (up (up (up (up (up (up (up (up (up ς 0 ga) 1 gb) 2 (sc (na))) 6 la) 7 me) 8 (sc (n8))) 9 qd) 10 qu) 11 wT) 12 qT) κ' ++ cs ∧ (wfS wT qT) ∧ (IsSoon σ (cdv (σ 6) (σ 7)) z) ∧ (-4 ≤ z ∧ z ≤ 1000000000)) := by
  refine cM.of (by decide) (Nat.le_of_ble_eq_true rfl) ?_
  intro p e s m args below meth c A Q H locs hQ hx hb hr hml hown hlk hname hts hK hP hD hS hA hX ls hl
  have hl : lv_has ls 1 [(0, .ref (ad 0))] := hl
  refine lv_aload_n hx hb dX1_soonest_0 rfl (lv_at hl 0 rfl) ?_
  refine kM (va_runV (As := []) (rest := []) ⟨hx, hb, hml, hown, hts⟩ ((m_finds l G ad ty hv σ ς κ cs (show okF σ from hF) (show wfS (ς 11) (ς 12) from hT)) H.size) (cwV 0 hts (lw_V q613 q615 qs23 q76 q616) rfl rfl rfl (by decide +kernel) ⟨Nat.le_of_ble_eq_true rfl, Nat.le_of_ble_eq_true rfl⟩) (pvM (r := (RX1, TX1, 21)) hK hP hD hX 0 (aD_0 _ _ _ _ _ _ _) rfl) rfl rfl hl.1 rfl (lv_room (Nat.le_of_ble_eq_true rfl)) dX1_soonest_1 ⟨Nat.le_of_ble_eq_true rfl, Nat.le_of_ble_eq_true rfl⟩) hD hS hA (fun v ws1 H locs hv hP hD hS => ?_)
  obtain ⟨ga1, gb1, na1, la1, me1, n81, qd1, qu1, wT1, qT1, κ1, rfl, rfl, hT1, hSo1⟩ := hv
  have hP : va_P G gcl (wD ad ty hv σ (up (up (up (up (up (up (up (up (up (up ς 0 ga1) 1 gb1) 2 (sc (na1))) 6 la1) 7 me1) 8 (sc (n81))) 9 qd1) 10 qu1) 11 wT1) 12 qT1) κ1 ++ cs) H := hP
  have hD : va_D A (wD ad ty hv σ (up (up (up (up (up (up (up (up (up (up ς 0 ga1) 1 gb1) 2 (sc (na1))) 6 la1) 7 me1) 8 (sc (n81))) 9 qd1) 10 qu1) 11 wT1) 12 qT1) κ1 ++ cs) := hD
  have hT1 : wfS wT1 qT1 := hT1
  have hSo1 : Sought (EF σ) (cdv (σ 6) (σ 7)) la1 me1 n81 := hSo1
  refine lv_aload_n hx hb dX1_soonest_4 rfl (lv_at hl 0 rfl) ?_
  refine kM (va_runV (As := []) (rest := []) ⟨hx, hb, hml, hown, hts⟩ ((m_soonestOf l G ad ty hv σ (up (up (up (up (up (up (up (up (up (up ς 0 ga1) 1 gb1) 2 (sc (na1))) 6 la1) 7 me1) 8 (sc (n81))) 9 qd1) 10 qu1) 11 wT1) 12 qT1) κ1 cs _ _ (show okF σ from hF) (show wfS wT1 qT1 from hT1) (hSo1.toMet)) H.size) (cwV 0 hts (lw_V q634 q636 qs26 q76 q637) rfl rfl rfl (by decide +kernel) ⟨Nat.le_of_ble_eq_true rfl, Nat.le_of_ble_eq_true rfl⟩) (pvM (r := (RX1, TX1, 21)) hK hP hD hX 0 (aD_0 _ _ _ _ _ _ _) rfl) rfl rfl hl.1 rfl (lv_room (Nat.le_of_ble_eq_true rfl)) dX1_soonest_5 ⟨Nat.le_of_ble_eq_true rfl, Nat.le_of_ble_eq_true rfl⟩) hD hS hA (fun v ws1 H locs hv hP hD hS => ?_)
  obtain ⟨z5, wT5, qT5, κ5, rfl, rfl, hT5, hz5, hzr5⟩ := hv
  have hP : va_P G gcl (wD ad ty hv σ (up (up (up (up (up (up (up (up (up (up ς 0 ga1) 1 gb1) 2 (sc (na1))) 6 la1) 7 me1) 8 (sc (n81))) 9 qd1) 10 qu1) 11 wT5) 12 qT5) κ5 ++ cs) H := hP
  have hD : va_D A (wD ad ty hv σ (up (up (up (up (up (up (up (up (up (up ς 0 ga1) 1 gb1) 2 (sc (na1))) 6 la1) 7 me1) 8 (sc (n81))) 9 qd1) 10 qu1) 11 wT5) 12 qT5) κ5 ++ cs) := hD
  have hT5 : wfS wT5 qT5 := hT5
  have hz5 : soonP (dn σ) la1 z5 := hz5
  have hzr5 : -4 ≤ z5 ∧ z5 ≤ 1000000000 := hzr5
  exact eMi hQ hx hb hr hlk hP hD hS (Nat.le_of_ble_eq_true rfl) (Nat.le_of_ble_eq_true rfl) dX1_soonest_8 (⟨z5, ga1, gb1, na1, la1, me1, n81, qd1, qu1, wT5, qT5, κ5, rfl, rfl, hT5, ⟨_, _, _, hSo1, hz5⟩, hzr5⟩)
set_option maxHeartbeats 4000000 in
theorem m_states (l : Launch) (G : va_G) (ad : Nat → Nat) (ty : Nat → ClassId) (hv : Nat → Option Nat) (σ ς κ : mem) (cs : va_W)   (hF : okF σ) (hT : wfS (ς 11) (ς 12)) : cM l yX1_states (ws_ yX1_states cX1_states 1 (some .int)) (rm4 6 0 0 146) G ty (wD ad ty hv σ ς κ ++ cs) [.ref (ad 0)] 0 0 (fun r W' => ∃ (z : Int) (ga : Int → Int) (gb : Int → Int) (na : Int) (la : Int → Int) (me : Int → Int) (n8 : Int) (qd : Int → Int) (qu : Int → Int) (wT : Int → Int) (qT : Int → Int) (κ' : mem), r = some (.int (ii z)) ∧ W' = wD ad ty hv σ (up (up (up (up (up (up (up (up (up (up ς 0 ga) 1 gb) 2 (sc (na))) 6 la) 7 me) 8 (sc (n8))) 9 qd) 10 qu) 11 wT) 12 qT) κ' ++ cs ∧ (wfS wT qT) ∧ (IsStates σ (cdv (σ 6) (σ 7)) z)) := by
  refine cM.of (by decide) (Nat.le_of_ble_eq_true rfl) ?_
  intro p e s m args below meth c A Q H locs hQ hx hb hr hml hown hlk hname hts hK hP hD hS hA hX ls hl
  have hl : lv_has ls 1 [(0, .ref (ad 0))] := hl
  refine lv_aload_n hx hb dX1_states_0 rfl (lv_at hl 0 rfl) ?_
  refine kM (va_runV (As := []) (rest := []) ⟨hx, hb, hml, hown, hts⟩ ((m_finds l G ad ty hv σ ς κ cs (show okF σ from hF) (show wfS (ς 11) (ς 12) from hT)) H.size) (cwV 0 hts (lw_V q613 q615 qs23 q76 q616) rfl rfl rfl (by decide +kernel) ⟨Nat.le_of_ble_eq_true rfl, Nat.le_of_ble_eq_true rfl⟩) (pvM (r := (RX1, TX1, 21)) hK hP hD hX 0 (aD_0 _ _ _ _ _ _ _) rfl) rfl rfl hl.1 rfl (lv_room (Nat.le_of_ble_eq_true rfl)) dX1_states_1 ⟨Nat.le_of_ble_eq_true rfl, Nat.le_of_ble_eq_true rfl⟩) hD hS hA (fun v ws1 H locs hv hP hD hS => ?_)
  obtain ⟨ga1, gb1, na1, la1, me1, n81, qd1, qu1, wT1, qT1, κ1, rfl, rfl, hT1, hSo1⟩ := hv
  have hP : va_P G gcl (wD ad ty hv σ (up (up (up (up (up (up (up (up (up (up ς 0 ga1) 1 gb1) 2 (sc (na1))) 6 la1) 7 me1) 8 (sc (n81))) 9 qd1) 10 qu1) 11 wT1) 12 qT1) κ1 ++ cs) H := hP
  have hD : va_D A (wD ad ty hv σ (up (up (up (up (up (up (up (up (up (up ς 0 ga1) 1 gb1) 2 (sc (na1))) 6 la1) 7 me1) 8 (sc (n81))) 9 qd1) 10 qu1) 11 wT1) 12 qT1) κ1 ++ cs) := hD
  have hT1 : wfS wT1 qT1 := hT1
  have hSo1 : Sought (EF σ) (cdv (σ 6) (σ 7)) la1 me1 n81 := hSo1
  refine lv_aload_n hx hb dX1_states_4 rfl (lv_at hl 0 rfl) ?_
  refine va_get (D := G) (ci := 0) (v := .int (ii n81)) (C := RX1) (T := TX1) (N := 21) hx hb hts in_X1 hown hK hP 0 (aD_0 _ _ _ _ _ _ _) rfl 12 (by decide) (hts _ q989) (fun _ h9 => h9) rfl dX1_states_5 ?_
  exact eMi hQ hx hb hr hlk hP hD hS (Nat.le_of_ble_eq_true rfl) (Nat.le_of_ble_eq_true rfl) dX1_states_8 (⟨n81, ga1, gb1, na1, la1, me1, n81, qd1, qu1, wT1, qT1, κ1, rfl, rfl, hT1, ⟨_, _, hSo1⟩⟩)
set_option maxHeartbeats 4000000 in
theorem m_leadsDown (l : Launch) (G : va_G) (ad : Nat → Nat) (ty : Nat → ClassId) (hv : Nat → Option Nat) (σ ς κ : mem) (cs : va_W)   (hF : okF σ) (hT : wfS (ς 11) (ς 12)) : cM l yX1_leadsDown (ws_ yX1_leadsDown cX1_leadsDown 1 (some .boolean)) (rm4 6 0 0 146) G ty (wD ad ty hv σ ς κ ++ cs) [.ref (ad 0)] 0 0 (fun r W' => ∃ (z : Int) (ga : Int → Int) (gb : Int → Int) (na : Int) (la : Int → Int) (me : Int → Int) (n8 : Int) (qd : Int → Int) (qu : Int → Int) (wT : Int → Int) (qT : Int → Int) (κ' : mem), r = some (.int (ii z)) ∧ W' = wD ad ty hv σ (up (up (up (up (up (up (up (up (up (up ς 0 ga) 1 gb) 2 (sc (na))) 6 la) 7 me) 8 (sc (n8))) 9 qd) 10 qu) 11 wT) 12 qT) κ' ++ cs ∧ (wfS wT qT) ∧ ((z = 1 ∧ (∃ z, IsSoon σ (cdv (σ 6) (σ 7)) z ∧ ¬ z = -4)) ∨ (z = 0 ∧ (IsSoon σ (cdv (σ 6) (σ 7)) (-4))))) := by
  refine cM.of (by decide) (Nat.le_of_ble_eq_true rfl) ?_
  intro p e s m args below meth c A Q H locs hQ hx hb hr hml hown hlk hname hts hK hP hD hS hA hX ls hl
  have hl : lv_has ls 1 [(0, .ref (ad 0))] := hl
  refine lv_aload_n hx hb dX1_leadsDown_0 rfl (lv_at hl 0 rfl) ?_
  refine kM (va_runV (As := []) (rest := []) ⟨hx, hb, hml, hown, hts⟩ ((m_finds l G ad ty hv σ ς κ cs (show okF σ from hF) (show wfS (ς 11) (ς 12) from hT)) H.size) (cwV 0 hts (lw_V q613 q615 qs23 q76 q616) rfl rfl rfl (by decide +kernel) ⟨Nat.le_of_ble_eq_true rfl, Nat.le_of_ble_eq_true rfl⟩) (pvM (r := (RX1, TX1, 21)) hK hP hD hX 0 (aD_0 _ _ _ _ _ _ _) rfl) rfl rfl hl.1 rfl (lv_room (Nat.le_of_ble_eq_true rfl)) dX1_leadsDown_1 ⟨Nat.le_of_ble_eq_true rfl, Nat.le_of_ble_eq_true rfl⟩) hD hS hA (fun v ws1 H locs hv hP hD hS => ?_)
  obtain ⟨ga1, gb1, na1, la1, me1, n81, qd1, qu1, wT1, qT1, κ1, rfl, rfl, hT1, hSo1⟩ := hv
  have hP : va_P G gcl (wD ad ty hv σ (up (up (up (up (up (up (up (up (up (up ς 0 ga1) 1 gb1) 2 (sc (na1))) 6 la1) 7 me1) 8 (sc (n81))) 9 qd1) 10 qu1) 11 wT1) 12 qT1) κ1 ++ cs) H := hP
  have hD : va_D A (wD ad ty hv σ (up (up (up (up (up (up (up (up (up (up ς 0 ga1) 1 gb1) 2 (sc (na1))) 6 la1) 7 me1) 8 (sc (n81))) 9 qd1) 10 qu1) 11 wT1) 12 qT1) κ1 ++ cs) := hD
  have hT1 : wfS wT1 qT1 := hT1
  have hSo1 : Sought (EF σ) (cdv (σ 6) (σ 7)) la1 me1 n81 := hSo1
  refine lv_aload_n hx hb dX1_leadsDown_4 rfl (lv_at hl 0 rfl) ?_
  refine kM (va_runV (As := []) (rest := []) ⟨hx, hb, hml, hown, hts⟩ ((m_soonestOf l G ad ty hv σ (up (up (up (up (up (up (up (up (up (up ς 0 ga1) 1 gb1) 2 (sc (na1))) 6 la1) 7 me1) 8 (sc (n81))) 9 qd1) 10 qu1) 11 wT1) 12 qT1) κ1 cs _ _ (show okF σ from hF) (show wfS wT1 qT1 from hT1) (hSo1.toMet)) H.size) (cwV 0 hts (lw_V q634 q636 qs26 q76 q637) rfl rfl rfl (by decide +kernel) ⟨Nat.le_of_ble_eq_true rfl, Nat.le_of_ble_eq_true rfl⟩) (pvM (r := (RX1, TX1, 21)) hK hP hD hX 0 (aD_0 _ _ _ _ _ _ _) rfl) rfl rfl hl.1 rfl (lv_room (Nat.le_of_ble_eq_true rfl)) dX1_leadsDown_5 ⟨Nat.le_of_ble_eq_true rfl, Nat.le_of_ble_eq_true rfl⟩) hD hS hA (fun v ws1 H locs hv hP hD hS => ?_)
  obtain ⟨z5, wT5, qT5, κ5, rfl, rfl, hT5, hz5, hzr5⟩ := hv
  have hP : va_P G gcl (wD ad ty hv σ (up (up (up (up (up (up (up (up (up (up ς 0 ga1) 1 gb1) 2 (sc (na1))) 6 la1) 7 me1) 8 (sc (n81))) 9 qd1) 10 qu1) 11 wT5) 12 qT5) κ5 ++ cs) H := hP
  have hD : va_D A (wD ad ty hv σ (up (up (up (up (up (up (up (up (up (up ς 0 ga1) 1 gb1) 2 (sc (na1))) 6 la1) 7 me1) 8 (sc (n81))) 9 qd1) 10 qu1) 11 wT5) 12 qT5) κ5 ++ cs) := hD
  have hT5 : wfS wT5 qT5 := hT5
  have hz5 : soonP (dn σ) la1 z5 := hz5
  have hzr5 : -4 ≤ z5 ∧ z5 ≤ 1000000000 := hzr5
  refine li_bipush hx hb dX1_leadsDown_8 (by decide) ?_
  refine li_icmp_eq (tgt := 17) hx hb (rg4 hzr5) ⟨by decide, by decide⟩ dX1_leadsDown_10 (by decide) (fun c10 => ?_) (fun c10 => ?_)
  · refine li_iconst hx hb dX1_leadsDown_17 ?_
    exact eMz hQ hx hb hr hlk hP hD hS (Nat.le_of_ble_eq_true rfl) (Nat.le_of_ble_eq_true rfl) dX1_leadsDown_18 (.inl rfl) (⟨0, ga1, gb1, na1, la1, me1, n81, qd1, qu1, wT5, qT5, κ5, rfl, rfl, hT5, .inr ⟨rfl, ⟨_, _, _, hSo1, by rw [← c10]; exact hz5⟩⟩⟩)
  · refine li_iconst hx hb dX1_leadsDown_13 ?_
    refine lv_goto (tgt := 18) hx hb dX1_leadsDown_14 (by decide) ?_
    exact eMz hQ hx hb hr hlk hP hD hS (Nat.le_of_ble_eq_true rfl) (Nat.le_of_ble_eq_true rfl) dX1_leadsDown_18 (.inr rfl) (⟨1, ga1, gb1, na1, la1, me1, n81, qd1, qu1, wT5, qT5, κ5, rfl, rfl, hT5, .inl ⟨rfl, _, ⟨_, _, _, hSo1, hz5⟩, c10⟩⟩)
set_option maxHeartbeats 4000000 in
theorem m_isPerson (l : Launch) (G : va_G) (ad : Nat → Nat) (ty : Nat → ClassId) (hv : Nat → Option Nat) (σ ς κ : mem) (cs : va_W) (p1 : Int)  (hF : okF σ) (hp : rg p1) : cR l yX1_isPerson (ws_ yX1_isPerson cX1_isPerson 2 (some .boolean)) (rm4 1 0 0 22) G ty (wD ad ty hv σ ς κ ++ cs) [.ref (ad 0), .int (ii p1)] (fun r => ∃ (z : Int), r = some (.int (ii z)) ∧ ((z = 1 ∧ (0 ≤ p1 ∧ p1 < (σ 9 0))) ∨ (z = 0 ∧ (¬ (0 ≤ p1 ∧ p1 < (σ 9 0)))))) := by
  refine cR.of (by decide) (Nat.le_of_ble_eq_true rfl) ?_
  intro p e s m args below meth c Q hQ hx hb hr hml hown hlk hts hK hP hD hX ls hl
  have hl : lv_has ls 2 [(0, .ref (ad 0)), (1, .int (ii p1))] := hl
  obtain ⟨hW, hWS, hlg⟩ := id hF
  obtain ⟨hw0, hw1, hw2, hw3, hw4, hw5, h8a, h8b, h9a, h9b, h10a, h10b⟩ := id hW
  obtain ⟨hs0, hs1⟩ := id hWS
  obtain ⟨hp1, hp2⟩ := id hp
  refine lv_iload_n hx hb dX1_isPerson_0 rfl (lv_at hl 1 rfl) ?_
  refine li_iconst hx hb dX1_isPerson_1 ?_
  refine lv_aload_n hx hb dX1_isPerson_2 rfl (lv_at hl 0 rfl) ?_
  refine va_get (D := G) (ci := 0) (v := .ref (ad 1)) (C := RX1) (T := TX1) (N := 21) hx hb hts in_X1 hown hK hP 0 (aD_0 _ _ _ _ _ _ _) rfl 0 (by decide) (hts _ q977) (fun _ h9 => h9) rfl dX1_isPerson_3 ?_
  refine va_get (D := G) (ci := 1) (v := .int (ii (σ 9 0))) (C := RX2) (T := TX2) (N := 13) hx hb hts in_X2 hown hK hP 1 (aD_1 _ _ _ _ _ _ _) rfl 6 (by decide) (hts _ q790) (fun _ h9 => h9) rfl dX1_isPerson_6 ?_
  refine li_iconst hx hb dX1_isPerson_9 ?_
  refine li_sub hx hb dX1_isPerson_10 ?_
  refine kR (va_runS (As := [.int (ii p1), .int (ii 0), .int (ii (σ 9 0 - 1))]) (rest := []) ⟨hx, hb, hml, hown, hts⟩ (m_isIn l G ty (wD ad ty hv σ ς κ ++ cs) p1 0 (σ 9 0 - 1) hp ⟨by decide, by decide⟩ ⟨by omega, by omega⟩) (va_cwS 3 hts (lw_S q117 q118 q76 q119) rfl rfl rfl (by decide +kernel) ⟨Nat.le_of_ble_eq_true rfl, Nat.le_of_ble_eq_true rfl⟩) (psR hK hP hD hX) rfl rfl hl.1 rfl (lv_room (Nat.le_of_ble_eq_true rfl)) dX1_isPerson_11 ⟨Nat.le_of_ble_eq_true rfl, Nat.le_of_ble_eq_true rfl⟩) (fun v hv => ?_)
  obtain ⟨z11, rfl, ⟨rfl, h11⟩ | ⟨rfl, h11⟩⟩ := hv
  · exact eRz hQ hx hb hr hlk dX1_isPerson_14 (.inr rfl) (⟨1, rfl, .inl ⟨rfl, by omega⟩⟩)
  · exact eRz hQ hx hb hr hlk dX1_isPerson_14 (.inl rfl) (⟨0, rfl, .inr ⟨rfl, by omega⟩⟩)
set_option maxHeartbeats 4000000 in
theorem m_isRope (l : Launch) (G : va_G) (ad : Nat → Nat) (ty : Nat → ClassId) (hv : Nat → Option Nat) (σ ς κ : mem) (cs : va_W) (p1 : Int)  (hF : okF σ) (hp : rg p1) : cR l yX1_isRope (ws_ yX1_isRope cX1_isRope 2 (some .boolean)) (rm4 1 0 0 22) G ty (wD ad ty hv σ ς κ ++ cs) [.ref (ad 0), .int (ii p1)] (fun r => ∃ (z : Int), r = some (.int (ii z)) ∧ ((z = 1 ∧ (0 ≤ p1 ∧ p1 < (σ 10 0))) ∨ (z = 0 ∧ (¬ (0 ≤ p1 ∧ p1 < (σ 10 0)))))) := by
  refine cR.of (by decide) (Nat.le_of_ble_eq_true rfl) ?_
  intro p e s m args below meth c Q hQ hx hb hr hml hown hlk hts hK hP hD hX ls hl
  have hl : lv_has ls 2 [(0, .ref (ad 0)), (1, .int (ii p1))] := hl
  obtain ⟨hW, hWS, hlg⟩ := id hF
  obtain ⟨hw0, hw1, hw2, hw3, hw4, hw5, h8a, h8b, h9a, h9b, h10a, h10b⟩ := id hW
  obtain ⟨hs0, hs1⟩ := id hWS
  obtain ⟨hp1, hp2⟩ := id hp
  refine lv_iload_n hx hb dX1_isRope_0 rfl (lv_at hl 1 rfl) ?_
  refine li_iconst hx hb dX1_isRope_1 ?_
  refine lv_aload_n hx hb dX1_isRope_2 rfl (lv_at hl 0 rfl) ?_
  refine va_get (D := G) (ci := 0) (v := .ref (ad 1)) (C := RX1) (T := TX1) (N := 21) hx hb hts in_X1 hown hK hP 0 (aD_0 _ _ _ _ _ _ _) rfl 0 (by decide) (hts _ q977) (fun _ h9 => h9) rfl dX1_isRope_3 ?_
  refine va_get (D := G) (ci := 1) (v := .int (ii (σ 10 0))) (C := RX2) (T := TX2) (N := 13) hx hb hts in_X2 hown hK hP 1 (aD_1 _ _ _ _ _ _ _) rfl 8 (by decide) (hts _ q801) (fun _ h9 => h9) rfl dX1_isRope_6 ?_
  refine li_iconst hx hb dX1_isRope_9 ?_
  refine li_sub hx hb dX1_isRope_10 ?_
  refine kR (va_runS (As := [.int (ii p1), .int (ii 0), .int (ii (σ 10 0 - 1))]) (rest := []) ⟨hx, hb, hml, hown, hts⟩ (m_isIn l G ty (wD ad ty hv σ ς κ ++ cs) p1 0 (σ 10 0 - 1) hp ⟨by decide, by decide⟩ ⟨by omega, by omega⟩) (va_cwS 3 hts (lw_S q117 q118 q76 q119) rfl rfl rfl (by decide +kernel) ⟨Nat.le_of_ble_eq_true rfl, Nat.le_of_ble_eq_true rfl⟩) (psR hK hP hD hX) rfl rfl hl.1 rfl (lv_room (Nat.le_of_ble_eq_true rfl)) dX1_isRope_11 ⟨Nat.le_of_ble_eq_true rfl, Nat.le_of_ble_eq_true rfl⟩) (fun v hv => ?_)
  obtain ⟨z11, rfl, ⟨rfl, h11⟩ | ⟨rfl, h11⟩⟩ := hv
  · exact eRz hQ hx hb hr hlk dX1_isRope_14 (.inr rfl) (⟨1, rfl, .inl ⟨rfl, by omega⟩⟩)
  · exact eRz hQ hx hb hr hlk dX1_isRope_14 (.inl rfl) (⟨0, rfl, .inr ⟨rfl, by omega⟩⟩)
set_option maxHeartbeats 4000000 in
theorem m_hurt (l : Launch) (G : va_G) (ad : Nat → Nat) (ty : Nat → ClassId) (hv : Nat → Option Nat) (σ ς κ : mem) (cs : va_W) (p1 : Int) (t1 : Int)  (hF : okF σ) (hT : wfS (ς 11) (ς 12)) (hp : rg p1) (ht : rg t1) : cM l yX1_hurt (ws_ yX1_hurt cX1_hurt 4 (some .int)) (rm4 6 0 0 146) G ty (wD ad ty hv σ ς κ ++ cs) [.ref (ad 0), .int (ii p1), .int (ii t1)] 0 0 (fun r W' => ∃ (z : Int) (ga : Int → Int) (gb : Int → Int) (na : Int) (la : Int → Int) (me : Int → Int) (n8 : Int) (qd : Int → Int) (qu : Int → Int) (wT : Int → Int) (qT : Int → Int) (κ' : mem), r = some (.int (ii z)) ∧ W' = wD ad ty hv σ (up (up (up (up (up (up (up (up (up (up ς 0 ga) 1 gb) 2 (sc (na))) 6 la) 7 me) 8 (sc (n8))) 9 qd) 10 qu) 11 wT) 12 qT) κ' ++ cs ∧ (wfS wT qT) ∧ ((¬ ((0 ≤ p1 ∧ p1 < (σ 9 0)) ∧ 0 ≤ t1 ∧ t1 ≤ 2) ∧ z = -1) ∨ (((0 ≤ p1 ∧ p1 < (σ 9 0)) ∧ 0 ≤ t1 ∧ t1 ≤ 2) ∧ IsSoon (up σ 4 (ug (σ 4) p1 t1)) (cdv (σ 6) (σ 7)) z))) := by
  refine cM.of (by decide) (Nat.le_of_ble_eq_true rfl) ?_
  intro p e s m args below meth c A Q H locs hQ hx hb hr hml hown hlk hname hts hK hP hD hS hA hX ls hl
  have hl : lv_has ls 4 [(0, .ref (ad 0)), (1, .int (ii p1)), (2, .int (ii t1))] := hl
  obtain ⟨hW, hWS, hlg⟩ := id hF
  obtain ⟨hw0, hw1, hw2, hw3, hw4, hw5, h8a, h8b, h9a, h9b, h10a, h10b⟩ := id hW
  obtain ⟨hs0, hs1⟩ := id hWS
  obtain ⟨ht1, ht2⟩ := id ht
  refine lv_aload_n hx hb dX1_hurt_0 rfl (lv_at hl 0 rfl) ?_
  refine lv_iload_n hx hb dX1_hurt_1 rfl (lv_at hl 1 rfl) ?_
  refine kR (va_runV (As := [.int (ii p1)]) (rest := []) ⟨hx, hb, hml, hown, hts⟩ (m_isPerson l G ad ty hv σ ς κ cs p1 (show okF σ from hF) (show rg p1 from hp)) (cwV 1 hts (lw_V q353 q355 qs16 q76 q356) rfl rfl rfl (by decide +kernel) ⟨Nat.le_of_ble_eq_true rfl, Nat.le_of_ble_eq_true rfl⟩) (pvR (r := (RX1, TX1, 21)) hK hP hD hX 0 (aD_0 _ _ _ _ _ _ _) rfl) rfl rfl hl.1 rfl (lv_room (Nat.le_of_ble_eq_true rfl)) dX1_hurt_2 ⟨Nat.le_of_ble_eq_true rfl, Nat.le_of_ble_eq_true rfl⟩) (fun v hv => ?_)
  obtain ⟨z2, rfl, ⟨rfl, hb2⟩ | ⟨rfl, hb2⟩⟩ := hv
  · have hb2 : 0 ≤ p1 ∧ p1 < (σ 9 0) := hb2
    refine li_if_eq (tgt := 17) hx hb ⟨by decide, by decide⟩ dX1_hurt_5 (by decide) (fun c5 => ?_) (fun c5 => ?_)
    · exact absurd c5 (by decide)
    · refine lv_iload_n hx hb dX1_hurt_8 rfl (lv_at hl 2 rfl) ?_
      refine li_iconst hx hb dX1_hurt_9 ?_
      refine li_iconst hx hb dX1_hurt_10 ?_
      refine kR (va_runS (As := [.int (ii t1), .int (ii 0), .int (ii 2)]) (rest := []) ⟨hx, hb, hml, hown, hts⟩ (m_isIn l G ty (wD ad ty hv σ ς κ ++ cs) t1 0 2 ht ⟨by decide, by decide⟩ ⟨by decide, by decide⟩) (va_cwS 3 hts (lw_S q117 q118 q76 q119) rfl rfl rfl (by decide +kernel) ⟨Nat.le_of_ble_eq_true rfl, Nat.le_of_ble_eq_true rfl⟩) (psR hK hP hD hX) rfl rfl hl.1 rfl (lv_room (Nat.le_of_ble_eq_true rfl)) dX1_hurt_11 ⟨Nat.le_of_ble_eq_true rfl, Nat.le_of_ble_eq_true rfl⟩) (fun v hv => ?_)
      obtain ⟨z11, rfl, ⟨rfl, h11⟩ | ⟨rfl, h11⟩⟩ := hv
      · refine li_if_ne (tgt := 19) hx hb ⟨by decide, by decide⟩ dX1_hurt_14 (by decide) (fun c14 => ?_) (fun c14 => ?_)
        · refine lv_aload_n hx hb dX1_hurt_19 rfl (lv_at hl 0 rfl) ?_
          refine va_get (D := G) (ci := 0) (v := .ref (ad 1)) (C := RX1) (T := TX1) (N := 21) hx hb hts in_X1 hown hK hP 0 (aD_0 _ _ _ _ _ _ _) rfl 0 (by decide) (hts _ q977) (fun _ h9 => h9) rfl dX1_hurt_20 ?_
          refine va_get (D := G) (ci := 1) (v := .ref (ad 6)) (C := RX2) (T := TX2) (N := 13) hx hb hts in_X2 hown hK hP 1 (aD_1 _ _ _ _ _ _ _) rfl 5 (by decide) (hts _ q789) (fun _ h9 => h9) rfl dX1_hurt_23 ?_
          refine lv_iload_n hx hb dX1_hurt_26 rfl (lv_at hl 1 rfl) ?_
          refine li_iald (g := (σ 4)) hx hb hK hP 6 0 (aD_6 _ _ _ _ _ _ _) rfl (by omega) (by omega) (by decide) dX1_hurt_27 ?_
          have r28 := hw4 p1
          refine lv_istore_n (lv' := [(3, .int (ii (σ 4 p1))), (0, .ref (ad 0)), (1, .int (ii p1)), (2, .int (ii t1))]) hx hb dX1_hurt_28 rfl hl (by decide) rfl (fun ls hl => ?_)
          refine lv_aload_n hx hb dX1_hurt_29 rfl (lv_at hl 1 rfl) ?_
          refine va_get (D := G) (ci := 0) (v := .ref (ad 1)) (C := RX1) (T := TX1) (N := 21) hx hb hts in_X1 hown hK hP 0 (aD_0 _ _ _ _ _ _ _) rfl 0 (by decide) (hts _ q977) (fun _ h9 => h9) rfl dX1_hurt_30 ?_
          refine va_get (D := G) (ci := 1) (v := .ref (ad 6)) (C := RX2) (T := TX2) (N := 13) hx hb hts in_X2 hown hK hP 1 (aD_1 _ _ _ _ _ _ _) rfl 5 (by decide) (hts _ q789) (fun _ h9 => h9) rfl dX1_hurt_33 ?_
          refine lv_iload_n hx hb dX1_hurt_36 rfl (lv_at hl 2 rfl) ?_
          refine lv_iload_n hx hb dX1_hurt_37 rfl (lv_at hl 3 rfl) ?_
          refine li_iast (g := (σ 4)) (W2 := wD ad ty hv (up σ 4 (ug (σ 4) p1 t1)) ς κ ++ cs) hx hb hK hP hD hS 6 0 (aD_6 _ _ _ _ _ _ _) rfl (by omega) (by omega) (by decide) rfl dX1_hurt_38 (fun H locs hP hD hS => ?_)
          refine lv_aload_n hx hb dX1_hurt_39 rfl (lv_at hl 1 rfl) ?_
          refine kM (va_runV (As := []) (rest := []) ⟨hx, hb, hml, hown, hts⟩ ((m_finds l G ad ty hv (up σ 4 (ug (σ 4) p1 t1)) ς κ cs (show okF (up σ 4 (ug (σ 4) p1 t1)) from okF_sort hF h11) (show wfS (ς 11) (ς 12) from hT)) H.size) (cwV 0 hts (lw_V q613 q615 qs23 q76 q616) rfl rfl rfl (by decide +kernel) ⟨Nat.le_of_ble_eq_true rfl, Nat.le_of_ble_eq_true rfl⟩) (pvM (r := (RX1, TX1, 21)) hK hP hD hX 0 (aD_0 _ _ _ _ _ _ _) rfl) rfl rfl hl.1 rfl (lv_room (Nat.le_of_ble_eq_true rfl)) dX1_hurt_40 ⟨Nat.le_of_ble_eq_true rfl, Nat.le_of_ble_eq_true rfl⟩) hD hS hA (fun v ws1 H locs hv hP hD hS => ?_)
          obtain ⟨ga40, gb40, na40, la40, me40, n840, qd40, qu40, wT40, qT40, κ40, rfl, rfl, hT40, hSo40⟩ := hv
          have hP : va_P G gcl (wD ad ty hv (up σ 4 (ug (σ 4) p1 t1)) (up (up (up (up (up (up (up (up (up (up ς 0 ga40) 1 gb40) 2 (sc (na40))) 6 la40) 7 me40) 8 (sc (n840))) 9 qd40) 10 qu40) 11 wT40) 12 qT40) κ40 ++ cs) H := hP
          have hD : va_D A (wD ad ty hv (up σ 4 (ug (σ 4) p1 t1)) (up (up (up (up (up (up (up (up (up (up ς 0 ga40) 1 gb40) 2 (sc (na40))) 6 la40) 7 me40) 8 (sc (n840))) 9 qd40) 10 qu40) 11 wT40) 12 qT40) κ40 ++ cs) := hD
          have hT40 : wfS wT40 qT40 := hT40
          have hSo40 : Sought (EF (up σ 4 (ug (σ 4) p1 t1))) (cdv (σ 6) (σ 7)) la40 me40 n840 := hSo40
          refine lv_aload_n hx hb dX1_hurt_43 rfl (lv_at hl 1 rfl) ?_
          refine va_get (D := G) (ci := 0) (v := .ref (ad 1)) (C := RX1) (T := TX1) (N := 21) hx hb hts in_X1 hown hK hP 0 (aD_0 _ _ _ _ _ _ _) rfl 0 (by decide) (hts _ q977) (fun _ h9 => h9) rfl dX1_hurt_44 ?_
          refine va_get (D := G) (ci := 1) (v := .ref (ad 6)) (C := RX2) (T := TX2) (N := 13) hx hb hts in_X2 hown hK hP 1 (aD_1 _ _ _ _ _ _ _) rfl 5 (by decide) (hts _ q789) (fun _ h9 => h9) rfl dX1_hurt_47 ?_
          refine lv_iload_n hx hb dX1_hurt_50 rfl (lv_at hl 2 rfl) ?_
          refine lv_iload_n hx hb dX1_hurt_51 rfl (lv_at hl 0 rfl) ?_
          refine li_iast (g := (ug (σ 4) p1 t1)) (W2 := wD ad ty hv (up σ 4 (ug (ug (σ 4) p1 t1) p1 (σ 4 p1))) (up (up (up (up (up (up (up (up (up (up ς 0 ga40) 1 gb40) 2 (sc (na40))) 6 la40) 7 me40) 8 (sc (n840))) 9 qd40) 10 qu40) 11 wT40) 12 qT40) κ40 ++ cs) hx hb hK hP hD hS 6 0 (aD_6 _ _ _ _ _ _ _) rfl (by omega) (by omega) (by decide) rfl dX1_hurt_52 (fun H locs hP hD hS => ?_)
          have hgs : ug (ug (σ 4) p1 t1) p1 (σ 4 p1) = σ 4 := by rw [ug_ug]; exact ug_same rfl
          rw [hgs, up_id] at hP hD
          refine lv_aload_n hx hb dX1_hurt_53 rfl (lv_at hl 1 rfl) ?_
          refine kM (va_runV (As := []) (rest := []) ⟨hx, hb, hml, hown, hts⟩ ((m_soonestOf l G ad ty hv σ (up (up (up (up (up (up (up (up (up (up ς 0 ga40) 1 gb40) 2 (sc (na40))) 6 la40) 7 me40) 8 (sc (n840))) 9 qd40) 10 qu40) 11 wT40) 12 qT40) κ40 cs _ _ (show okF σ from hF) (show wfS wT40 qT40 from hT40) (hSo40.toMet)) H.size) (cwV 0 hts (lw_V q634 q636 qs26 q76 q637) rfl rfl rfl (by decide +kernel) ⟨Nat.le_of_ble_eq_true rfl, Nat.le_of_ble_eq_true rfl⟩) (pvM (r := (RX1, TX1, 21)) hK hP hD hX 0 (aD_0 _ _ _ _ _ _ _) rfl) rfl rfl hl.1 rfl (lv_room (Nat.le_of_ble_eq_true rfl)) dX1_hurt_54 ⟨Nat.le_of_ble_eq_true rfl, Nat.le_of_ble_eq_true rfl⟩) hD hS hA (fun v ws1 H locs hv hP hD hS => ?_)
          obtain ⟨z54, wT54, qT54, κ54, rfl, rfl, hT54, hz54, hzr54⟩ := hv
          have hP : va_P G gcl (wD ad ty hv σ (up (up (up (up (up (up (up (up (up (up ς 0 ga40) 1 gb40) 2 (sc (na40))) 6 la40) 7 me40) 8 (sc (n840))) 9 qd40) 10 qu40) 11 wT54) 12 qT54) κ54 ++ cs) H := hP
          have hD : va_D A (wD ad ty hv σ (up (up (up (up (up (up (up (up (up (up ς 0 ga40) 1 gb40) 2 (sc (na40))) 6 la40) 7 me40) 8 (sc (n840))) 9 qd40) 10 qu40) 11 wT54) 12 qT54) κ54 ++ cs) := hD
          have hT54 : wfS wT54 qT54 := hT54
          have hz54 : soonP (dn σ) la40 z54 := hz54
          have hzr54 : -4 ≤ z54 ∧ z54 ≤ 1000000000 := hzr54
          exact eMi hQ hx hb hr hlk hP hD hS (Nat.le_of_ble_eq_true rfl) (Nat.le_of_ble_eq_true rfl) dX1_hurt_57 (⟨z54, ga40, gb40, na40, la40, me40, n840, qd40, qu40, wT54, qT54, κ54, rfl, rfl, hT54, .inr ⟨⟨hb2, h11⟩, _, _, _, hSo40, hz54⟩⟩)
        · exact absurd c14 (by decide)
      · refine li_if_ne (tgt := 19) hx hb ⟨by decide, by decide⟩ dX1_hurt_14 (by decide) (fun c14 => ?_) (fun c14 => ?_)
        · exact absurd c14 (by decide)
        · refine li_iconst hx hb dX1_hurt_17 ?_
          exact eMi hQ hx hb hr hlk hP hD hS (Nat.le_of_ble_eq_true rfl) (Nat.le_of_ble_eq_true rfl) dX1_hurt_18 (⟨-1, (ς 0), (ς 1), ς 2 0, (ς 6), (ς 7), ς 8 0, (ς 9), (ς 10), (ς 11), (ς 12), κ, rfl, rfl, hT, .inl ⟨by omega, rfl⟩⟩)
  · have hb2 : ¬ (0 ≤ p1 ∧ p1 < (σ 9 0)) := hb2
    refine li_if_eq (tgt := 17) hx hb ⟨by decide, by decide⟩ dX1_hurt_5 (by decide) (fun c5 => ?_) (fun c5 => ?_)
    · refine li_iconst hx hb dX1_hurt_17 ?_
      exact eMi hQ hx hb hr hlk hP hD hS (Nat.le_of_ble_eq_true rfl) (Nat.le_of_ble_eq_true rfl) dX1_hurt_18 (⟨-1, (ς 0), (ς 1), ς 2 0, (ς 6), (ς 7), ς 8 0, (ς 9), (ς 10), (ς 11), (ς 12), κ, rfl, rfl, hT, .inl ⟨by omega, rfl⟩⟩)
    · exact absurd c5 (by decide)
set_option maxHeartbeats 4000000 in
theorem m_leftIn (l : Launch) (G : va_G) (ad : Nat → Nat) (ty : Nat → ClassId) (hv : Nat → Option Nat) (σ ς κ : mem) (cs : va_W) (c1 : Int)  (hF : okF σ) (hT : wfS (ς 11) (ς 12)) (hc : inSt c1) : cM l yX1_leftIn (ws_ yX1_leftIn cX1_leftIn 4 (some .int)) (rm4 1 0 0 23) G ty (wD ad ty hv σ ς κ ++ cs) [.ref (ad 0), .int (ii c1)] 0 0 (fun r W' => ∃ (z : Int) (wT : Int → Int) (qT : Int → Int) (κ' : mem), r = some (.int (ii z)) ∧ W' = wD ad ty hv σ (up (up ς 11 wT) 12 qT) κ' ++ cs ∧ (wfS wT qT) ∧ (z = lf σ c1)) := by
  refine cM.of (by decide) (Nat.le_of_ble_eq_true rfl) ?_
  intro p e s m args below meth c A Q H locs hQ hx hb hr hml hown hlk hname hts hK hP hD hS hA hX ls hl
  have hl : lv_has ls 4 [(0, .ref (ad 0)), (1, .int (ii c1))] := hl
  obtain ⟨hW, hWS, hlg⟩ := id hF
  obtain ⟨hw0, hw1, hw2, hw3, hw4, hw5, h8a, h8b, h9a, h9b, h10a, h10b⟩ := id hW
  obtain ⟨hs0, hs1⟩ := id hWS
  have hq0 := dcq_0 c1 (ς 12)
  have hq1 := dcq_1 c1 (ς 12)
  have hT2 : wfS (dcw c1 (ς 11)) (dcq c1 (ς 12)) := ⟨dcw_b hT.1, dcq_b hT.2⟩
  refine lv_aload_n hx hb dX1_leftIn_0 rfl (lv_at hl 0 rfl) ?_
  refine va_get (D := G) (ci := 0) (v := .ref (ad 48)) (C := RX1) (T := TX1) (N := 21) hx hb hts in_X1 hown hK hP 0 (aD_0 _ _ _ _ _ _ _) rfl 15 (by decide) (hts _ q992) (fun _ h9 => h9) rfl dX1_leftIn_1 ?_
  refine lv_iload_n hx hb dX1_leftIn_4 rfl (lv_at hl 1 rfl) ?_
  refine kM (va_runV (As := [.int (ii c1)]) (rest := []) ⟨hx, hb, hml, hown, hts⟩ (m_decodes l G ty (wD ad ty hv σ ς κ ++ cs) (fun k => 48 + k) (fun k => ad (48 + k)) (ς 11) (ς 12) c1 ⟨rfl, rfl, rfl⟩ hc (by decide) (by decide) (by decide) (by decide) H.size) (cwV 1 hts (lw_V q626 q627 q628 q78 q629) rfl rfl rfl (by decide +kernel) ⟨Nat.le_of_ble_eq_true rfl, Nat.le_of_ble_eq_true rfl⟩) (pvM (r := (RX3, TX3, 2)) hK hP hD hX 48 (aD_48 _ _ _ _ _ _ _) rfl) rfl rfl hl.1 rfl (lv_room (Nat.le_of_ble_eq_true rfl)) dX1_leftIn_5 ⟨Nat.le_of_ble_eq_true rfl, Nat.le_of_ble_eq_true rfl⟩) hD hS hA (fun v ws1 H locs hv hP hD hS => ?_)
  obtain ⟨rfl, rfl⟩ := hv
  have hP : va_P G gcl (wD ad ty hv σ (up (up ς 11 (dcw c1 (ς 11))) 12 (dcq c1 (ς 12))) κ ++ cs) H := hP
  have hD : va_D A (wD ad ty hv σ (up (up ς 11 (dcw c1 (ς 11))) 12 (dcq c1 (ς 12))) κ ++ cs) := hD
  refine li_iconst hx hb dX1_leftIn_8 ?_
  refine lv_istore_n (lv' := [(2, .int (ii 0)), (0, .ref (ad 0)), (1, .int (ii c1))]) hx hb dX1_leftIn_9 rfl hl (by decide) rfl (fun ls hl => ?_)
  refine li_iconst hx hb dX1_leftIn_10 ?_
  refine lv_istore_n (lv' := [(3, .int (ii 0)), (2, .int (ii 0)), (0, .ref (ad 0)), (1, .int (ii c1))]) hx hb dX1_leftIn_11 rfl hl (by decide) rfl (fun ls hl => ?_)
  refine lv_iload_n hx hb dX1_leftIn_12 rfl (lv_at hl 0 rfl) ?_
  refine lv_aload_n hx hb dX1_leftIn_13 rfl (lv_at hl 2 rfl) ?_
  refine va_get (D := G) (ci := 0) (v := .ref (ad 1)) (C := RX1) (T := TX1) (N := 21) hx hb hts in_X1 hown hK hP 0 (aD_0 _ _ _ _ _ _ _) rfl 0 (by decide) (hts _ q977) (fun _ h9 => h9) rfl dX1_leftIn_14 ?_
  refine va_get (D := G) (ci := 1) (v := .int (ii (σ 10 0))) (C := RX2) (T := TX2) (N := 13) hx hb hts in_X2 hown hK hP 1 (aD_1 _ _ _ _ _ _ _) rfl 8 (by decide) (hts _ q801) (fun _ h9 => h9) rfl dX1_leftIn_17 ?_
  refine li_icmp_ge (tgt := 50) hx hb ⟨by decide, by decide⟩ (rgi h10a h10b) dX1_leftIn_20 (by decide) (fun c20 => ?_) (fun c20 => ?_)
  · refine lv_iload_n hx hb dX1_leftIn_50 rfl (lv_at hl 1 rfl) ?_
    exact eMi hQ hx hb hr hlk hP hD hS (Nat.le_of_ble_eq_true rfl) (Nat.le_of_ble_eq_true rfl) dX1_leftIn_51 (⟨0, (dcw c1 (ς 11)), (dcq c1 (ς 12)), κ, rfl, rfl, hT2, by unfold lf; omega⟩)
  · refine lv_iload_n hx hb dX1_leftIn_23 rfl (lv_at hl 1 rfl) ?_
    refine lv_aload_n hx hb dX1_leftIn_24 rfl (lv_at hl 2 rfl) ?_
    refine va_get (D := G) (ci := 0) (v := .ref (ad 48)) (C := RX1) (T := TX1) (N := 21) hx hb hts in_X1 hown hK hP 0 (aD_0 _ _ _ _ _ _ _) rfl 15 (by decide) (hts _ q992) (fun _ h9 => h9) rfl dX1_leftIn_25 ?_
    refine va_get (D := G) (ci := 2) (v := .ref (ad 50)) (C := RX3) (T := TX3) (N := 2) hx hb hts in_X3 hown hK hP 48 (aD_48 _ _ _ _ _ _ _) rfl 1 (by decide) (hts _ q664) (fun _ h9 => h9) rfl dX1_leftIn_28 ?_
    refine lv_iload_n hx hb dX1_leftIn_31 rfl (lv_at hl 0 rfl) ?_
    refine li_iald (g := (dcq c1 (ς 12))) hx hb hK hP 50 0 (aD_50 _ _ _ _ _ _ _) rfl (by decide) (by decide) (by decide) dX1_leftIn_32 ?_
    refine li_iconst hx hb dX1_leftIn_33 ?_
    refine li_icmp_ne (tgt := 41) hx hb ⟨by omega, by omega⟩ ⟨by decide, by decide⟩ dX1_leftIn_34 (by decide) (fun c34 => ?_) (fun c34 => ?_)
    · refine li_iconst hx hb dX1_leftIn_41 ?_
      refine li_add hx hb dX1_leftIn_42 ?_
      refine li_top (b := 0) (by decide) ?_
      refine lv_istore_n (lv' := [(2, .int (ii 0)), (3, .int (ii 0)), (0, .ref (ad 0)), (1, .int (ii c1))]) hx hb dX1_leftIn_43 rfl hl (by decide) rfl (fun ls hl => ?_)
      refine li_iinc (a := 0) (lv' := [(3, .int (ii 1)), (2, .int (ii 0)), (0, .ref (ad 0)), (1, .int (ii c1))]) hx hb dX1_leftIn_44 hl (k := 1) rfl (by decide) rfl (fun ls hl => ?_)
      refine lv_goto (tgt := 12) hx hb dX1_leftIn_47 (by decide) ?_
      refine lv_iload_n hx hb dX1_leftIn_12 rfl (lv_at hl 0 rfl) ?_
      refine lv_aload_n hx hb dX1_leftIn_13 rfl (lv_at hl 2 rfl) ?_
      refine va_get (D := G) (ci := 0) (v := .ref (ad 1)) (C := RX1) (T := TX1) (N := 21) hx hb hts in_X1 hown hK hP 0 (aD_0 _ _ _ _ _ _ _) rfl 0 (by decide) (hts _ q977) (fun _ h9 => h9) rfl dX1_leftIn_14 ?_
      refine va_get (D := G) (ci := 1) (v := .int (ii (σ 10 0))) (C := RX2) (T := TX2) (N := 13) hx hb hts in_X2 hown hK hP 1 (aD_1 _ _ _ _ _ _ _) rfl 8 (by decide) (hts _ q801) (fun _ h9 => h9) rfl dX1_leftIn_17 ?_
      refine li_icmp_ge (tgt := 50) hx hb ⟨by decide, by decide⟩ (rgi h10a h10b) dX1_leftIn_20 (by decide) (fun c20 => ?_) (fun c20 => ?_)
      · refine lv_iload_n hx hb dX1_leftIn_50 rfl (lv_at hl 1 rfl) ?_
        exact eMi hQ hx hb hr hlk hP hD hS (Nat.le_of_ble_eq_true rfl) (Nat.le_of_ble_eq_true rfl) dX1_leftIn_51 (⟨0, (dcw c1 (ς 11)), (dcq c1 (ς 12)), κ, rfl, rfl, hT2, by unfold lf; omega⟩)
      · refine lv_iload_n hx hb dX1_leftIn_23 rfl (lv_at hl 1 rfl) ?_
        refine lv_aload_n hx hb dX1_leftIn_24 rfl (lv_at hl 2 rfl) ?_
        refine va_get (D := G) (ci := 0) (v := .ref (ad 48)) (C := RX1) (T := TX1) (N := 21) hx hb hts in_X1 hown hK hP 0 (aD_0 _ _ _ _ _ _ _) rfl 15 (by decide) (hts _ q992) (fun _ h9 => h9) rfl dX1_leftIn_25 ?_
        refine va_get (D := G) (ci := 2) (v := .ref (ad 50)) (C := RX3) (T := TX3) (N := 2) hx hb hts in_X3 hown hK hP 48 (aD_48 _ _ _ _ _ _ _) rfl 1 (by decide) (hts _ q664) (fun _ h9 => h9) rfl dX1_leftIn_28 ?_
        refine lv_iload_n hx hb dX1_leftIn_31 rfl (lv_at hl 0 rfl) ?_
        refine li_iald (g := (dcq c1 (ς 12))) hx hb hK hP 50 0 (aD_50 _ _ _ _ _ _ _) rfl (by decide) (by decide) (by decide) dX1_leftIn_32 ?_
        refine li_iconst hx hb dX1_leftIn_33 ?_
        refine li_icmp_ne (tgt := 41) hx hb ⟨by omega, by omega⟩ ⟨by decide, by decide⟩ dX1_leftIn_34 (by decide) (fun c34 => ?_) (fun c34 => ?_)
        · refine li_iconst hx hb dX1_leftIn_41 ?_
          refine li_add hx hb dX1_leftIn_42 ?_
          refine li_top (b := 0) (by decide) ?_
          refine lv_istore_n (lv' := [(2, .int (ii 0)), (3, .int (ii 1)), (0, .ref (ad 0)), (1, .int (ii c1))]) hx hb dX1_leftIn_43 rfl hl (by decide) rfl (fun ls hl => ?_)
          refine li_iinc (a := 1) (lv' := [(3, .int (ii 2)), (2, .int (ii 0)), (0, .ref (ad 0)), (1, .int (ii c1))]) hx hb dX1_leftIn_44 hl (k := 1) rfl (by decide) rfl (fun ls hl => ?_)
          refine lv_goto (tgt := 12) hx hb dX1_leftIn_47 (by decide) ?_
          refine lv_iload_n hx hb dX1_leftIn_12 rfl (lv_at hl 0 rfl) ?_
          refine lv_aload_n hx hb dX1_leftIn_13 rfl (lv_at hl 2 rfl) ?_
          refine va_get (D := G) (ci := 0) (v := .ref (ad 1)) (C := RX1) (T := TX1) (N := 21) hx hb hts in_X1 hown hK hP 0 (aD_0 _ _ _ _ _ _ _) rfl 0 (by decide) (hts _ q977) (fun _ h9 => h9) rfl dX1_leftIn_14 ?_
          refine va_get (D := G) (ci := 1) (v := .int (ii (σ 10 0))) (C := RX2) (T := TX2) (N := 13) hx hb hts in_X2 hown hK hP 1 (aD_1 _ _ _ _ _ _ _) rfl 8 (by decide) (hts _ q801) (fun _ h9 => h9) rfl dX1_leftIn_17 ?_
          refine li_icmp_ge (tgt := 50) hx hb ⟨by decide, by decide⟩ (rgi h10a h10b) dX1_leftIn_20 (by decide) (fun c20 => ?_) (fun c20 => ?_)
          · refine lv_iload_n hx hb dX1_leftIn_50 rfl (lv_at hl 1 rfl) ?_
            exact eMi hQ hx hb hr hlk hP hD hS (Nat.le_of_ble_eq_true rfl) (Nat.le_of_ble_eq_true rfl) dX1_leftIn_51 (⟨0, (dcw c1 (ς 11)), (dcq c1 (ς 12)), κ, rfl, rfl, hT2, by unfold lf; omega⟩)
          · exfalso
            omega
        · refine li_iconst hx hb dX1_leftIn_37 ?_
          refine lv_goto (tgt := 42) hx hb dX1_leftIn_38 (by decide) ?_
          refine li_add hx hb dX1_leftIn_42 ?_
          refine li_top (b := 1) (by decide) ?_
          refine lv_istore_n (lv' := [(2, .int (ii 1)), (3, .int (ii 1)), (0, .ref (ad 0)), (1, .int (ii c1))]) hx hb dX1_leftIn_43 rfl hl (by decide) rfl (fun ls hl => ?_)
          refine li_iinc (a := 1) (lv' := [(3, .int (ii 2)), (2, .int (ii 1)), (0, .ref (ad 0)), (1, .int (ii c1))]) hx hb dX1_leftIn_44 hl (k := 1) rfl (by decide) rfl (fun ls hl => ?_)
          refine lv_goto (tgt := 12) hx hb dX1_leftIn_47 (by decide) ?_
          refine lv_iload_n hx hb dX1_leftIn_12 rfl (lv_at hl 0 rfl) ?_
          refine lv_aload_n hx hb dX1_leftIn_13 rfl (lv_at hl 2 rfl) ?_
          refine va_get (D := G) (ci := 0) (v := .ref (ad 1)) (C := RX1) (T := TX1) (N := 21) hx hb hts in_X1 hown hK hP 0 (aD_0 _ _ _ _ _ _ _) rfl 0 (by decide) (hts _ q977) (fun _ h9 => h9) rfl dX1_leftIn_14 ?_
          refine va_get (D := G) (ci := 1) (v := .int (ii (σ 10 0))) (C := RX2) (T := TX2) (N := 13) hx hb hts in_X2 hown hK hP 1 (aD_1 _ _ _ _ _ _ _) rfl 8 (by decide) (hts _ q801) (fun _ h9 => h9) rfl dX1_leftIn_17 ?_
          refine li_icmp_ge (tgt := 50) hx hb ⟨by decide, by decide⟩ (rgi h10a h10b) dX1_leftIn_20 (by decide) (fun c20 => ?_) (fun c20 => ?_)
          · refine lv_iload_n hx hb dX1_leftIn_50 rfl (lv_at hl 1 rfl) ?_
            exact eMi hQ hx hb hr hlk hP hD hS (Nat.le_of_ble_eq_true rfl) (Nat.le_of_ble_eq_true rfl) dX1_leftIn_51 (⟨1, (dcw c1 (ς 11)), (dcq c1 (ς 12)), κ, rfl, rfl, hT2, by unfold lf; omega⟩)
          · exfalso
            omega
    · refine li_iconst hx hb dX1_leftIn_37 ?_
      refine lv_goto (tgt := 42) hx hb dX1_leftIn_38 (by decide) ?_
      refine li_add hx hb dX1_leftIn_42 ?_
      refine li_top (b := 1) (by decide) ?_
      refine lv_istore_n (lv' := [(2, .int (ii 1)), (3, .int (ii 0)), (0, .ref (ad 0)), (1, .int (ii c1))]) hx hb dX1_leftIn_43 rfl hl (by decide) rfl (fun ls hl => ?_)
      refine li_iinc (a := 0) (lv' := [(3, .int (ii 1)), (2, .int (ii 1)), (0, .ref (ad 0)), (1, .int (ii c1))]) hx hb dX1_leftIn_44 hl (k := 1) rfl (by decide) rfl (fun ls hl => ?_)
      refine lv_goto (tgt := 12) hx hb dX1_leftIn_47 (by decide) ?_
      refine lv_iload_n hx hb dX1_leftIn_12 rfl (lv_at hl 0 rfl) ?_
      refine lv_aload_n hx hb dX1_leftIn_13 rfl (lv_at hl 2 rfl) ?_
      refine va_get (D := G) (ci := 0) (v := .ref (ad 1)) (C := RX1) (T := TX1) (N := 21) hx hb hts in_X1 hown hK hP 0 (aD_0 _ _ _ _ _ _ _) rfl 0 (by decide) (hts _ q977) (fun _ h9 => h9) rfl dX1_leftIn_14 ?_
      refine va_get (D := G) (ci := 1) (v := .int (ii (σ 10 0))) (C := RX2) (T := TX2) (N := 13) hx hb hts in_X2 hown hK hP 1 (aD_1 _ _ _ _ _ _ _) rfl 8 (by decide) (hts _ q801) (fun _ h9 => h9) rfl dX1_leftIn_17 ?_
      refine li_icmp_ge (tgt := 50) hx hb ⟨by decide, by decide⟩ (rgi h10a h10b) dX1_leftIn_20 (by decide) (fun c20 => ?_) (fun c20 => ?_)
      · refine lv_iload_n hx hb dX1_leftIn_50 rfl (lv_at hl 1 rfl) ?_
        exact eMi hQ hx hb hr hlk hP hD hS (Nat.le_of_ble_eq_true rfl) (Nat.le_of_ble_eq_true rfl) dX1_leftIn_51 (⟨1, (dcw c1 (ς 11)), (dcq c1 (ς 12)), κ, rfl, rfl, hT2, by unfold lf; omega⟩)
      · refine lv_iload_n hx hb dX1_leftIn_23 rfl (lv_at hl 1 rfl) ?_
        refine lv_aload_n hx hb dX1_leftIn_24 rfl (lv_at hl 2 rfl) ?_
        refine va_get (D := G) (ci := 0) (v := .ref (ad 48)) (C := RX1) (T := TX1) (N := 21) hx hb hts in_X1 hown hK hP 0 (aD_0 _ _ _ _ _ _ _) rfl 15 (by decide) (hts _ q992) (fun _ h9 => h9) rfl dX1_leftIn_25 ?_
        refine va_get (D := G) (ci := 2) (v := .ref (ad 50)) (C := RX3) (T := TX3) (N := 2) hx hb hts in_X3 hown hK hP 48 (aD_48 _ _ _ _ _ _ _) rfl 1 (by decide) (hts _ q664) (fun _ h9 => h9) rfl dX1_leftIn_28 ?_
        refine lv_iload_n hx hb dX1_leftIn_31 rfl (lv_at hl 0 rfl) ?_
        refine li_iald (g := (dcq c1 (ς 12))) hx hb hK hP 50 0 (aD_50 _ _ _ _ _ _ _) rfl (by decide) (by decide) (by decide) dX1_leftIn_32 ?_
        refine li_iconst hx hb dX1_leftIn_33 ?_
        refine li_icmp_ne (tgt := 41) hx hb ⟨by omega, by omega⟩ ⟨by decide, by decide⟩ dX1_leftIn_34 (by decide) (fun c34 => ?_) (fun c34 => ?_)
        · refine li_iconst hx hb dX1_leftIn_41 ?_
          refine li_add hx hb dX1_leftIn_42 ?_
          refine li_top (b := 1) (by decide) ?_
          refine lv_istore_n (lv' := [(2, .int (ii 1)), (3, .int (ii 1)), (0, .ref (ad 0)), (1, .int (ii c1))]) hx hb dX1_leftIn_43 rfl hl (by decide) rfl (fun ls hl => ?_)
          refine li_iinc (a := 1) (lv' := [(3, .int (ii 2)), (2, .int (ii 1)), (0, .ref (ad 0)), (1, .int (ii c1))]) hx hb dX1_leftIn_44 hl (k := 1) rfl (by decide) rfl (fun ls hl => ?_)
          refine lv_goto (tgt := 12) hx hb dX1_leftIn_47 (by decide) ?_
          refine lv_iload_n hx hb dX1_leftIn_12 rfl (lv_at hl 0 rfl) ?_
          refine lv_aload_n hx hb dX1_leftIn_13 rfl (lv_at hl 2 rfl) ?_
          refine va_get (D := G) (ci := 0) (v := .ref (ad 1)) (C := RX1) (T := TX1) (N := 21) hx hb hts in_X1 hown hK hP 0 (aD_0 _ _ _ _ _ _ _) rfl 0 (by decide) (hts _ q977) (fun _ h9 => h9) rfl dX1_leftIn_14 ?_
          refine va_get (D := G) (ci := 1) (v := .int (ii (σ 10 0))) (C := RX2) (T := TX2) (N := 13) hx hb hts in_X2 hown hK hP 1 (aD_1 _ _ _ _ _ _ _) rfl 8 (by decide) (hts _ q801) (fun _ h9 => h9) rfl dX1_leftIn_17 ?_
          refine li_icmp_ge (tgt := 50) hx hb ⟨by decide, by decide⟩ (rgi h10a h10b) dX1_leftIn_20 (by decide) (fun c20 => ?_) (fun c20 => ?_)
          · refine lv_iload_n hx hb dX1_leftIn_50 rfl (lv_at hl 1 rfl) ?_
            exact eMi hQ hx hb hr hlk hP hD hS (Nat.le_of_ble_eq_true rfl) (Nat.le_of_ble_eq_true rfl) dX1_leftIn_51 (⟨1, (dcw c1 (ς 11)), (dcq c1 (ς 12)), κ, rfl, rfl, hT2, by unfold lf; omega⟩)
          · exfalso
            omega
        · refine li_iconst hx hb dX1_leftIn_37 ?_
          refine lv_goto (tgt := 42) hx hb dX1_leftIn_38 (by decide) ?_
          refine li_add hx hb dX1_leftIn_42 ?_
          refine li_top (b := 2) (by decide) ?_
          refine lv_istore_n (lv' := [(2, .int (ii 2)), (3, .int (ii 1)), (0, .ref (ad 0)), (1, .int (ii c1))]) hx hb dX1_leftIn_43 rfl hl (by decide) rfl (fun ls hl => ?_)
          refine li_iinc (a := 1) (lv' := [(3, .int (ii 2)), (2, .int (ii 2)), (0, .ref (ad 0)), (1, .int (ii c1))]) hx hb dX1_leftIn_44 hl (k := 1) rfl (by decide) rfl (fun ls hl => ?_)
          refine lv_goto (tgt := 12) hx hb dX1_leftIn_47 (by decide) ?_
          refine lv_iload_n hx hb dX1_leftIn_12 rfl (lv_at hl 0 rfl) ?_
          refine lv_aload_n hx hb dX1_leftIn_13 rfl (lv_at hl 2 rfl) ?_
          refine va_get (D := G) (ci := 0) (v := .ref (ad 1)) (C := RX1) (T := TX1) (N := 21) hx hb hts in_X1 hown hK hP 0 (aD_0 _ _ _ _ _ _ _) rfl 0 (by decide) (hts _ q977) (fun _ h9 => h9) rfl dX1_leftIn_14 ?_
          refine va_get (D := G) (ci := 1) (v := .int (ii (σ 10 0))) (C := RX2) (T := TX2) (N := 13) hx hb hts in_X2 hown hK hP 1 (aD_1 _ _ _ _ _ _ _) rfl 8 (by decide) (hts _ q801) (fun _ h9 => h9) rfl dX1_leftIn_17 ?_
          refine li_icmp_ge (tgt := 50) hx hb ⟨by decide, by decide⟩ (rgi h10a h10b) dX1_leftIn_20 (by decide) (fun c20 => ?_) (fun c20 => ?_)
          · refine lv_iload_n hx hb dX1_leftIn_50 rfl (lv_at hl 1 rfl) ?_
            exact eMi hQ hx hb hr hlk hP hD hS (Nat.le_of_ble_eq_true rfl) (Nat.le_of_ble_eq_true rfl) dX1_leftIn_51 (⟨2, (dcw c1 (ς 11)), (dcq c1 (ς 12)), κ, rfl, rfl, hT2, by unfold lf; omega⟩)
          · exfalso
            omega
set_option maxHeartbeats 4000000 in
theorem m_fewest (l : Launch) (G : va_G) (ad : Nat → Nat) (ty : Nat → ClassId) (hv : Nat → Option Nat) (σ ς κ : mem) (cs : va_W) (w1 : Int)  (hF : okF σ) (hT : wfS (ς 11) (ς 12)) (hw : rg w1) : cM l yX1_fewest (ws_ yX1_fewest cX1_fewest 6 (some .int)) (rm4 6 0 0 146) G ty (wD ad ty hv σ ς κ ++ cs) [.ref (ad 0), .int (ii w1)] 0 0 (fun r W' => ∃ (z : Int) (b : Int) (ga : Int → Int) (gb : Int → Int) (na : Int) (la : Int → Int) (me : Int → Int) (n8 : Int) (qd : Int → Int) (qu : Int → Int) (wT : Int → Int) (qT : Int → Int) (κ' : mem), r = some (.int (ii z)) ∧ W' = wD ad ty hv σ (up (up (up (up (up (up (up (up (up (up (up ς 0 ga) 1 gb) 2 (sc (na))) 6 la) 7 me) 8 (sc (n8))) 9 qd) 10 qu) 11 wT) 12 qT) 15 (sc (b))) κ' ++ cs ∧ (wfS wT qT) ∧ (IsFew σ (cdv (σ 6) (σ 7)) w1 z b) ∧ (-4 ≤ z ∧ z ≤ 2) ∧ (z = -4 ∨ (0 ≤ b ∧ b ≤ 1000000000))) := by
  refine cM.of (by decide) (Nat.le_of_ble_eq_true rfl) ?_
  intro p e s m args below meth c A Q H locs hQ hx hb hr hml hown hlk hname hts hK hP hD hS hA hX ls hl
  have hl : lv_has ls 6 [(0, .ref (ad 0)), (1, .int (ii w1))] := hl
  obtain ⟨hwa, hwb⟩ := id hw
  refine lv_aload_n hx hb dX1_fewest_0 rfl (lv_at hl 0 rfl) ?_
  refine kM (va_runV (As := []) (rest := []) ⟨hx, hb, hml, hown, hts⟩ ((m_finds l G ad ty hv σ ς κ cs (show okF σ from hF) (show wfS (ς 11) (ς 12) from hT)) H.size) (cwV 0 hts (lw_V q613 q615 qs23 q76 q616) rfl rfl rfl (by decide +kernel) ⟨Nat.le_of_ble_eq_true rfl, Nat.le_of_ble_eq_true rfl⟩) (pvM (r := (RX1, TX1, 21)) hK hP hD hX 0 (aD_0 _ _ _ _ _ _ _) rfl) rfl rfl hl.1 rfl (lv_room (Nat.le_of_ble_eq_true rfl)) dX1_fewest_1 ⟨Nat.le_of_ble_eq_true rfl, Nat.le_of_ble_eq_true rfl⟩) hD hS hA (fun v ws1 H locs hv hP hD hS => ?_)
  obtain ⟨ga1, gb1, na1, la1, me1, n81, qd1, qu1, wT1, qT1, κ1, rfl, rfl, hT1, hSo1⟩ := hv
  have hP : va_P G gcl (wD ad ty hv σ (up (up (up (up (up (up (up (up (up (up ς 0 ga1) 1 gb1) 2 (sc (na1))) 6 la1) 7 me1) 8 (sc (n81))) 9 qd1) 10 qu1) 11 wT1) 12 qT1) κ1 ++ cs) H := hP
  have hD : va_D A (wD ad ty hv σ (up (up (up (up (up (up (up (up (up (up ς 0 ga1) 1 gb1) 2 (sc (na1))) 6 la1) 7 me1) 8 (sc (n81))) 9 qd1) 10 qu1) 11 wT1) 12 qT1) κ1 ++ cs) := hD
  have hT1 : wfS wT1 qT1 := hT1
  have hSo1 : Sought (EF σ) (cdv (σ 6) (σ 7)) la1 me1 n81 := hSo1
  refine li_bipush hx hb dX1_fewest_4 (by decide) ?_
  refine lv_istore_n (lv' := [(2, .int (ii (-4))), (0, .ref (ad 0)), (1, .int (ii w1))]) hx hb dX1_fewest_6 rfl hl (by decide) rfl (fun ls hl => ?_)
  refine li_iconst hx hb dX1_fewest_7 ?_
  refine lv_istore_n (lv' := [(3, .int (ii 0)), (2, .int (ii (-4))), (0, .ref (ad 0)), (1, .int (ii w1))]) hx hb dX1_fewest_8 rfl hl (by decide) rfl (fun ls hl => ?_)
  have L9 : ∀ (n : Nat) (k1 : Int) (f1 : Int) (κa : mem) (wT : Int → Int) (qT : Int → Int) (b1 : Int) (_ : wfS wT qT) (_ : 0 ≤ k1) (_ : k1 ≤ n81) (_ : -4 ≤ f1 ∧ f1 ≤ 2) (_ : f1 = -4 ∨ (0 ≤ b1 ∧ b1 ≤ 1000000000)) (_ : fewI (dn σ) (lf σ) la1 me1 w1 k1 f1 b1) (_ : (n81 - k1).toNat < n) (H : Heap) (locs : List Loc) (_ : va_P G gcl (wD ad ty hv σ (up (up (up (up (up (up (up (up (up (up (up ς 0 ga1) 1 gb1) 2 (sc (na1))) 6 la1) 7 me1) 8 (sc (n81))) 9 qd1) 10 qu1) 11 wT) 12 qT) 15 (sc (b1))) κa ++ cs) H) (_ : va_D A (wD ad ty hv σ (up (up (up (up (up (up (up (up (up (up (up ς 0 ga1) 1 gb1) 2 (sc (na1))) 6 la1) 7 me1) 8 (sc (n81))) 9 qd1) 10 qu1) 11 wT) 12 qT) 15 (sc (b1))) κa ++ cs)) (_ : va_S A s.heap H locs) (ls : Array Slot), lv_has ls 6 [(3, .int (ii k1)), (2, .int (ii f1)), (0, .ref (ad 0)), (1, .int (ii w1))] → W p l e (rm4 6 0 0 146) s m args below meth c H locs 0 0 Q (F0 m 9 ls []) := by
    intro n
    induction n with
    | zero =>
      intro k1 f1 κa wT qT b1 hT hk0 hk1 hfr hbr hfw hm
      exact absurd hm (Nat.not_lt_zero _)
    | succ n ih =>
      intro k1 f1 κa wT qT b1 hT hk0 hk1 hfr hbr hfw hm H locs hP hD hS ls hl
      have hn2 := hSo1.toMet.n2
      refine lv_iload_n hx hb dX1_fewest_9 rfl (lv_at hl 0 rfl) ?_
      refine lv_aload_n hx hb dX1_fewest_10 rfl (lv_at hl 2 rfl) ?_
      refine va_get (D := G) (ci := 0) (v := .int (ii n81)) (C := RX1) (T := TX1) (N := 21) hx hb hts in_X1 hown hK hP 0 (aD_0 _ _ _ _ _ _ _) rfl 12 (by decide) (hts _ q989) (fun _ h9 => h9) rfl dX1_fewest_11 ?_
      refine li_icmp_ge (tgt := 111) hx hb ⟨by omega, by omega⟩ ⟨by omega, by omega⟩ dX1_fewest_14 (by decide) (fun c14 => ?_) (fun c14 => ?_)
      · refine lv_iload_n hx hb dX1_fewest_111 rfl (lv_at hl 1 rfl) ?_
        exact eMi hQ hx hb hr hlk hP hD hS (Nat.le_of_ble_eq_true rfl) (Nat.le_of_ble_eq_true rfl) dX1_fewest_112 (⟨f1, b1, ga1, gb1, na1, la1, me1, n81, qd1, qu1, wT, qT, κa, rfl, rfl, hT, ⟨_, _, _, hSo1, fewI_e hSo1.toMet hfw (by omega) hk1⟩, hfr, hbr⟩)
      · have hmk := (hSo1.mt k1 hk0 c14).1
        obtain ⟨hmk0, hmk1⟩ := id hmk
        have hmr := hSo1.toMet.rg hmk
        have hlt := hSo1.toMet.lt hmk (hSo1.mt k1 hk0 c14).2
        refine lv_aload_n hx hb dX1_fewest_17 rfl (lv_at hl 2 rfl) ?_
        refine va_get (D := G) (ci := 0) (v := .ref (ad 45)) (C := RX1) (T := TX1) (N := 21) hx hb hts in_X1 hown hK hP 0 (aD_0 _ _ _ _ _ _ _) rfl 11 (by decide) (hts _ q988) (fun _ h9 => h9) rfl dX1_fewest_18 ?_
        refine lv_iload_n hx hb dX1_fewest_21 rfl (lv_at hl 0 rfl) ?_
        refine li_iald (g := me1) hx hb hK hP 45 0 (aD_45 _ _ _ _ _ _ _) rfl (by omega) (by omega) (by decide) dX1_fewest_22 ?_
        refine lv_istore (lv' := [(4, .int (ii (me1 k1))), (3, .int (ii k1)), (2, .int (ii f1)), (0, .ref (ad 0)), (1, .int (ii w1))]) hx hb dX1_fewest_23 hl (by decide) rfl (fun ls hl => ?_)
        refine lv_aload_n hx hb dX1_fewest_25 rfl (lv_at hl 3 rfl) ?_
        refine va_get (D := G) (ci := 0) (v := .ref (ad 44)) (C := RX1) (T := TX1) (N := 21) hx hb hts in_X1 hown hK hP 0 (aD_0 _ _ _ _ _ _ _) rfl 10 (by decide) (hts _ q987) (fun _ h9 => h9) rfl dX1_fewest_26 ?_
        refine lv_iload hx hb dX1_fewest_29 (lv_at hl 0 rfl) ?_
        refine li_iald (g := la1) hx hb hK hP 44 0 (aD_44 _ _ _ _ _ _ _) rfl (by omega) (by omega) (by decide) dX1_fewest_31 ?_
        refine lv_iload_n hx hb dX1_fewest_32 rfl (lv_at hl 4 rfl) ?_
        refine li_icmp_gt (tgt := 105) hx hb ⟨by omega, by omega⟩ hw dX1_fewest_33 (by decide) (fun c33 => ?_) (fun c33 => ?_)
        · refine li_iinc (a := k1) (lv' := [(3, .int (ii (k1 + 1))), (4, .int (ii (me1 k1))), (2, .int (ii f1)), (0, .ref (ad 0)), (1, .int (ii w1))]) hx hb dX1_fewest_105 hl (k := 1) rfl (by decide) rfl (fun ls hl => ?_)
          refine lv_goto (tgt := 9) hx hb dX1_fewest_108 (by decide) ?_
          exact ih (k1 + 1) f1 κa wT qT b1 (hT) (by omega) (by omega) (⟨by omega, by omega⟩) (by omega) (fewI_skip hfw (fun q => by have := q.1; omega)) (by omega) H locs hP hD hS ls (lv_sub hl [0, 2, 3, 4] rfl)
        · refine lv_aload_n hx hb dX1_fewest_36 rfl (lv_at hl 3 rfl) ?_
          refine lv_iload hx hb dX1_fewest_37 (lv_at hl 0 rfl) ?_
          refine kM (va_runV (As := [.int (ii (me1 k1))]) (rest := []) ⟨hx, hb, hml, hown, hts⟩ ((m_isDown l G ad ty hv σ (up (up (up (up (up (up (up (up (up (up (up ς 0 ga1) 1 gb1) 2 (sc (na1))) 6 la1) 7 me1) 8 (sc (n81))) 9 qd1) 10 qu1) 11 wT) 12 qT) 15 (sc (b1))) κa cs (me1 k1) (show okF σ from hF) (show wfS wT qT from hT) (show inSt (me1 k1) from hmk)) H.size) (cwV 1 hts (lw_V q638 q640 qs27 q76 q641) rfl rfl rfl (by decide +kernel) ⟨Nat.le_of_ble_eq_true rfl, Nat.le_of_ble_eq_true rfl⟩) (pvM (r := (RX1, TX1, 21)) hK hP hD hX 0 (aD_0 _ _ _ _ _ _ _) rfl) rfl rfl hl.1 rfl (lv_room (Nat.le_of_ble_eq_true rfl)) dX1_fewest_39 ⟨Nat.le_of_ble_eq_true rfl, Nat.le_of_ble_eq_true rfl⟩) hD hS hA (fun v ws1 H locs hv hP hD hS => ?_)
          obtain ⟨z39, wT39, qT39, κ39, rfl, rfl, hT39, ⟨rfl, hb39⟩ | ⟨rfl, hb39⟩⟩ := hv
          · have hP : va_P G gcl (wD ad ty hv σ (up (up (up (up (up (up (up (up (up (up (up ς 0 ga1) 1 gb1) 2 (sc (na1))) 6 la1) 7 me1) 8 (sc (n81))) 9 qd1) 10 qu1) 15 (sc (b1))) 11 wT39) 12 qT39) κ39 ++ cs) H := hP
            have hD : va_D A (wD ad ty hv σ (up (up (up (up (up (up (up (up (up (up (up ς 0 ga1) 1 gb1) 2 (sc (na1))) 6 la1) 7 me1) 8 (sc (n81))) 9 qd1) 10 qu1) 15 (sc (b1))) 11 wT39) 12 qT39) κ39 ++ cs) := hD
            have hT39 : wfS wT39 qT39 := hT39
            have hb39 : dn σ (me1 k1) := hb39
            refine li_if_ne (tgt := 48) hx hb ⟨by decide, by decide⟩ dX1_fewest_42 (by decide) (fun c42 => ?_) (fun c42 => ?_)
            · refine lv_aload_n hx hb dX1_fewest_48 rfl (lv_at hl 3 rfl) ?_
              refine lv_iload hx hb dX1_fewest_49 (lv_at hl 0 rfl) ?_
              refine kM (va_runV (As := [.int (ii (me1 k1))]) (rest := []) ⟨hx, hb, hml, hown, hts⟩ ((m_leftIn l G ad ty hv σ (up (up (up (up (up (up (up (up (up (up (up ς 0 ga1) 1 gb1) 2 (sc (na1))) 6 la1) 7 me1) 8 (sc (n81))) 9 qd1) 10 qu1) 15 (sc (b1))) 11 wT39) 12 qT39) κ39 cs (me1 k1) (show okF σ from hF) (show wfS wT39 qT39 from hT39) (show inSt (me1 k1) from hmk)) H.size) (cwV 1 hts (lw_V q678 q680 qs29 q76 q681) rfl rfl rfl (by decide +kernel) ⟨Nat.le_of_ble_eq_true rfl, Nat.le_of_ble_eq_true rfl⟩) (pvM (r := (RX1, TX1, 21)) hK hP hD hX 0 (aD_0 _ _ _ _ _ _ _) rfl) rfl rfl hl.1 rfl (lv_room (Nat.le_of_ble_eq_true rfl)) dX1_fewest_51 ⟨Nat.le_of_ble_eq_true rfl, Nat.le_of_ble_eq_true rfl⟩) hD hS hA (fun v ws1 H locs hv hP hD hS => ?_)
              obtain ⟨z51, wT51, qT51, κ51, rfl, rfl, hT51, hz51⟩ := hv
              have hP : va_P G gcl (wD ad ty hv σ (up (up (up (up (up (up (up (up (up (up (up ς 0 ga1) 1 gb1) 2 (sc (na1))) 6 la1) 7 me1) 8 (sc (n81))) 9 qd1) 10 qu1) 15 (sc (b1))) 11 wT51) 12 qT51) κ51 ++ cs) H := hP
              have hD : va_D A (wD ad ty hv σ (up (up (up (up (up (up (up (up (up (up (up ς 0 ga1) 1 gb1) 2 (sc (na1))) 6 la1) 7 me1) 8 (sc (n81))) 9 qd1) 10 qu1) 15 (sc (b1))) 11 wT51) 12 qT51) κ51 ++ cs) := hD
              have hT51 : wfS wT51 qT51 := hT51
              have hz51 : z51 = lf σ (me1 k1) := hz51
              have hlf := lf_b σ (me1 k1)
              refine lv_istore (lv' := [(5, .int (ii z51)), (4, .int (ii (me1 k1))), (3, .int (ii k1)), (2, .int (ii f1)), (0, .ref (ad 0)), (1, .int (ii w1))]) hx hb dX1_fewest_54 hl (by decide) rfl (fun ls hl => ?_)
              refine lv_iload_n hx hb dX1_fewest_56 rfl (lv_at hl 3 rfl) ?_
              refine li_bipush hx hb dX1_fewest_57 (by decide) ?_
              refine li_icmp_eq (tgt := 91) hx hb ⟨by omega, by omega⟩ ⟨by decide, by decide⟩ dX1_fewest_59 (by decide) (fun c59 => ?_) (fun c59 => ?_)
              · refine lv_iload hx hb dX1_fewest_91 (lv_at hl 0 rfl) ?_
                refine lv_istore_n (lv' := [(2, .int (ii z51)), (5, .int (ii z51)), (4, .int (ii (me1 k1))), (3, .int (ii k1)), (0, .ref (ad 0)), (1, .int (ii w1))]) hx hb dX1_fewest_93 rfl hl (by decide) rfl (fun ls hl => ?_)
                refine lv_aload_n hx hb dX1_fewest_94 rfl (lv_at hl 4 rfl) ?_
                refine lv_aload_n hx hb dX1_fewest_95 rfl (lv_at hl 4 rfl) ?_
                refine va_get (D := G) (ci := 0) (v := .ref (ad 44)) (C := RX1) (T := TX1) (N := 21) hx hb hts in_X1 hown hK hP 0 (aD_0 _ _ _ _ _ _ _) rfl 10 (by decide) (hts _ q987) (fun _ h9 => h9) rfl dX1_fewest_96 ?_
                refine lv_iload hx hb dX1_fewest_99 (lv_at hl 2 rfl) ?_
                refine li_iald (g := la1) hx hb hK hP 44 0 (aD_44 _ _ _ _ _ _ _) rfl (by omega) (by omega) (by decide) dX1_fewest_101 ?_
                refine va_put (D := G) (ci := 0) (v := .int (ii (la1 (me1 k1)))) (ty := .int) (C := RX1) (T := TX1) (N := 21) hx hb hts in_X1 tyX1 tyX1_ok nmX1 hown hK hP hD hS 0 (aD_0 _ _ _ _ _ _ _) rfl 17 (by decide) (hts _ q994) (fun _ h9 => h9) rfl (tyX1_ok 17 (by decide)) rfl rfl (Nat.le_of_ble_eq_true rfl) dX1_fewest_102 (fun H locs hP hD hS => ?_)
                have hP : va_P G gcl (wD ad ty hv σ (up (up (up (up (up (up (up (up (up (up (up ς 0 ga1) 1 gb1) 2 (sc (na1))) 6 la1) 7 me1) 8 (sc (n81))) 9 qd1) 10 qu1) 11 wT51) 12 qT51) 15 (sc (la1 (me1 k1)))) κ51 ++ cs) H := hP
                have hD : va_D A (wD ad ty hv σ (up (up (up (up (up (up (up (up (up (up (up ς 0 ga1) 1 gb1) 2 (sc (na1))) 6 la1) 7 me1) 8 (sc (n81))) 9 qd1) 10 qu1) 11 wT51) 12 qT51) 15 (sc (la1 (me1 k1)))) κ51 ++ cs) := hD
                refine li_iinc (a := k1) (lv' := [(3, .int (ii (k1 + 1))), (2, .int (ii z51)), (5, .int (ii z51)), (4, .int (ii (me1 k1))), (0, .ref (ad 0)), (1, .int (ii w1))]) hx hb dX1_fewest_105 hl (k := 3) rfl (by decide) rfl (fun ls hl => ?_)
                refine lv_goto (tgt := 9) hx hb dX1_fewest_108 (by decide) ?_
                exact ih (k1 + 1) z51 κ51 wT51 qT51 (la1 (me1 k1)) (hT51) (by omega) (by omega) (⟨by omega, by omega⟩) (by omega) (fewI_new hfw (by omega) hb39 hk0 hz51 (by omega) (fun c => (lf_b σ c).1)) (by omega) H locs hP hD hS ls (lv_sub hl [0, 1, 4, 5] rfl)
              · refine lv_iload hx hb dX1_fewest_62 (lv_at hl 0 rfl) ?_
                refine lv_iload_n hx hb dX1_fewest_64 rfl (lv_at hl 3 rfl) ?_
                refine li_icmp_gt (tgt := 105) hx hb (lf_rg hz51) ⟨by omega, by omega⟩ dX1_fewest_65 (by decide) (fun c65 => ?_) (fun c65 => ?_)
                · refine li_iinc (a := k1) (lv' := [(3, .int (ii (k1 + 1))), (5, .int (ii z51)), (4, .int (ii (me1 k1))), (2, .int (ii f1)), (0, .ref (ad 0)), (1, .int (ii w1))]) hx hb dX1_fewest_105 hl (k := 2) rfl (by decide) rfl (fun ls hl => ?_)
                  refine lv_goto (tgt := 9) hx hb dX1_fewest_108 (by decide) ?_
                  exact ih (k1 + 1) f1 κ51 wT51 qT51 b1 (hT51) (by omega) (by omega) (⟨by omega, by omega⟩) (by omega) (fewI_keep hfw (by omega) (by omega)) (by omega) H locs hP hD hS ls (lv_sub hl [0, 3, 4, 5] rfl)
                · refine lv_iload hx hb dX1_fewest_68 (lv_at hl 0 rfl) ?_
                  refine lv_iload_n hx hb dX1_fewest_70 rfl (lv_at hl 3 rfl) ?_
                  refine li_icmp_ne (tgt := 91) hx hb (lf_rg hz51) ⟨by omega, by omega⟩ dX1_fewest_71 (by decide) (fun c71 => ?_) (fun c71 => ?_)
                  · refine lv_iload hx hb dX1_fewest_91 (lv_at hl 0 rfl) ?_
                    refine lv_istore_n (lv' := [(2, .int (ii z51)), (5, .int (ii z51)), (4, .int (ii (me1 k1))), (3, .int (ii k1)), (0, .ref (ad 0)), (1, .int (ii w1))]) hx hb dX1_fewest_93 rfl hl (by decide) rfl (fun ls hl => ?_)
                    refine lv_aload_n hx hb dX1_fewest_94 rfl (lv_at hl 4 rfl) ?_
                    refine lv_aload_n hx hb dX1_fewest_95 rfl (lv_at hl 4 rfl) ?_
                    refine va_get (D := G) (ci := 0) (v := .ref (ad 44)) (C := RX1) (T := TX1) (N := 21) hx hb hts in_X1 hown hK hP 0 (aD_0 _ _ _ _ _ _ _) rfl 10 (by decide) (hts _ q987) (fun _ h9 => h9) rfl dX1_fewest_96 ?_
                    refine lv_iload hx hb dX1_fewest_99 (lv_at hl 2 rfl) ?_
                    refine li_iald (g := la1) hx hb hK hP 44 0 (aD_44 _ _ _ _ _ _ _) rfl (by omega) (by omega) (by decide) dX1_fewest_101 ?_
                    refine va_put (D := G) (ci := 0) (v := .int (ii (la1 (me1 k1)))) (ty := .int) (C := RX1) (T := TX1) (N := 21) hx hb hts in_X1 tyX1 tyX1_ok nmX1 hown hK hP hD hS 0 (aD_0 _ _ _ _ _ _ _) rfl 17 (by decide) (hts _ q994) (fun _ h9 => h9) rfl (tyX1_ok 17 (by decide)) rfl rfl (Nat.le_of_ble_eq_true rfl) dX1_fewest_102 (fun H locs hP hD hS => ?_)
                    have hP : va_P G gcl (wD ad ty hv σ (up (up (up (up (up (up (up (up (up (up (up ς 0 ga1) 1 gb1) 2 (sc (na1))) 6 la1) 7 me1) 8 (sc (n81))) 9 qd1) 10 qu1) 11 wT51) 12 qT51) 15 (sc (la1 (me1 k1)))) κ51 ++ cs) H := hP
                    have hD : va_D A (wD ad ty hv σ (up (up (up (up (up (up (up (up (up (up (up ς 0 ga1) 1 gb1) 2 (sc (na1))) 6 la1) 7 me1) 8 (sc (n81))) 9 qd1) 10 qu1) 11 wT51) 12 qT51) 15 (sc (la1 (me1 k1)))) κ51 ++ cs) := hD
                    refine li_iinc (a := k1) (lv' := [(3, .int (ii (k1 + 1))), (2, .int (ii z51)), (5, .int (ii z51)), (4, .int (ii (me1 k1))), (0, .ref (ad 0)), (1, .int (ii w1))]) hx hb dX1_fewest_105 hl (k := 3) rfl (by decide) rfl (fun ls hl => ?_)
                    refine lv_goto (tgt := 9) hx hb dX1_fewest_108 (by decide) ?_
                    exact ih (k1 + 1) z51 κ51 wT51 qT51 (la1 (me1 k1)) (hT51) (by omega) (by omega) (⟨by omega, by omega⟩) (by omega) (fewI_new hfw (by omega) hb39 hk0 hz51 (by omega) (fun c => (lf_b σ c).1)) (by omega) H locs hP hD hS ls (lv_sub hl [0, 1, 4, 5] rfl)
                  · refine lv_aload_n hx hb dX1_fewest_74 rfl (lv_at hl 4 rfl) ?_
                    refine va_get (D := G) (ci := 0) (v := .ref (ad 44)) (C := RX1) (T := TX1) (N := 21) hx hb hts in_X1 hown hK hP 0 (aD_0 _ _ _ _ _ _ _) rfl 10 (by decide) (hts _ q987) (fun _ h9 => h9) rfl dX1_fewest_75 ?_
                    refine lv_iload hx hb dX1_fewest_78 (lv_at hl 1 rfl) ?_
                    refine li_iald (g := la1) hx hb hK hP 44 0 (aD_44 _ _ _ _ _ _ _) rfl (by omega) (by omega) (by decide) dX1_fewest_80 ?_
                    refine lv_aload_n hx hb dX1_fewest_81 rfl (lv_at hl 4 rfl) ?_
                    refine va_get (D := G) (ci := 0) (v := .int (ii b1)) (C := RX1) (T := TX1) (N := 21) hx hb hts in_X1 hown hK hP 0 (aD_0 _ _ _ _ _ _ _) rfl 17 (by decide) (hts _ q994) (fun _ h9 => h9) rfl dX1_fewest_82 ?_
                    refine li_icmp_lt (tgt := 91) hx hb ⟨by omega, by omega⟩ ⟨by omega, by omega⟩ dX1_fewest_85 (by decide) (fun c85 => ?_) (fun c85 => ?_)
                    · refine lv_iload hx hb dX1_fewest_91 (lv_at hl 0 rfl) ?_
                      refine lv_istore_n (lv' := [(2, .int (ii z51)), (5, .int (ii z51)), (4, .int (ii (me1 k1))), (3, .int (ii k1)), (0, .ref (ad 0)), (1, .int (ii w1))]) hx hb dX1_fewest_93 rfl hl (by decide) rfl (fun ls hl => ?_)
                      refine lv_aload_n hx hb dX1_fewest_94 rfl (lv_at hl 4 rfl) ?_
                      refine lv_aload_n hx hb dX1_fewest_95 rfl (lv_at hl 4 rfl) ?_
                      refine va_get (D := G) (ci := 0) (v := .ref (ad 44)) (C := RX1) (T := TX1) (N := 21) hx hb hts in_X1 hown hK hP 0 (aD_0 _ _ _ _ _ _ _) rfl 10 (by decide) (hts _ q987) (fun _ h9 => h9) rfl dX1_fewest_96 ?_
                      refine lv_iload hx hb dX1_fewest_99 (lv_at hl 2 rfl) ?_
                      refine li_iald (g := la1) hx hb hK hP 44 0 (aD_44 _ _ _ _ _ _ _) rfl (by omega) (by omega) (by decide) dX1_fewest_101 ?_
                      refine va_put (D := G) (ci := 0) (v := .int (ii (la1 (me1 k1)))) (ty := .int) (C := RX1) (T := TX1) (N := 21) hx hb hts in_X1 tyX1 tyX1_ok nmX1 hown hK hP hD hS 0 (aD_0 _ _ _ _ _ _ _) rfl 17 (by decide) (hts _ q994) (fun _ h9 => h9) rfl (tyX1_ok 17 (by decide)) rfl rfl (Nat.le_of_ble_eq_true rfl) dX1_fewest_102 (fun H locs hP hD hS => ?_)
                      have hP : va_P G gcl (wD ad ty hv σ (up (up (up (up (up (up (up (up (up (up (up ς 0 ga1) 1 gb1) 2 (sc (na1))) 6 la1) 7 me1) 8 (sc (n81))) 9 qd1) 10 qu1) 11 wT51) 12 qT51) 15 (sc (la1 (me1 k1)))) κ51 ++ cs) H := hP
                      have hD : va_D A (wD ad ty hv σ (up (up (up (up (up (up (up (up (up (up (up ς 0 ga1) 1 gb1) 2 (sc (na1))) 6 la1) 7 me1) 8 (sc (n81))) 9 qd1) 10 qu1) 11 wT51) 12 qT51) 15 (sc (la1 (me1 k1)))) κ51 ++ cs) := hD
                      refine li_iinc (a := k1) (lv' := [(3, .int (ii (k1 + 1))), (2, .int (ii z51)), (5, .int (ii z51)), (4, .int (ii (me1 k1))), (0, .ref (ad 0)), (1, .int (ii w1))]) hx hb dX1_fewest_105 hl (k := 3) rfl (by decide) rfl (fun ls hl => ?_)
                      refine lv_goto (tgt := 9) hx hb dX1_fewest_108 (by decide) ?_
                      exact ih (k1 + 1) z51 κ51 wT51 qT51 (la1 (me1 k1)) (hT51) (by omega) (by omega) (⟨by omega, by omega⟩) (by omega) (fewI_new hfw (by omega) hb39 hk0 hz51 (by omega) (fun c => (lf_b σ c).1)) (by omega) H locs hP hD hS ls (lv_sub hl [0, 1, 4, 5] rfl)
                    · refine lv_goto (tgt := 105) hx hb dX1_fewest_88 (by decide) ?_
                      refine li_iinc (a := k1) (lv' := [(3, .int (ii (k1 + 1))), (5, .int (ii z51)), (4, .int (ii (me1 k1))), (2, .int (ii f1)), (0, .ref (ad 0)), (1, .int (ii w1))]) hx hb dX1_fewest_105 hl (k := 2) rfl (by decide) rfl (fun ls hl => ?_)
                      refine lv_goto (tgt := 9) hx hb dX1_fewest_108 (by decide) ?_
                      exact ih (k1 + 1) f1 κ51 wT51 qT51 b1 (hT51) (by omega) (by omega) (⟨by omega, by omega⟩) (by omega) (fewI_keep hfw (by omega) (by omega)) (by omega) H locs hP hD hS ls (lv_sub hl [0, 3, 4, 5] rfl)
            · exact absurd c42 (by decide)
          · have hP : va_P G gcl (wD ad ty hv σ (up (up (up (up (up (up (up (up (up (up (up ς 0 ga1) 1 gb1) 2 (sc (na1))) 6 la1) 7 me1) 8 (sc (n81))) 9 qd1) 10 qu1) 15 (sc (b1))) 11 wT39) 12 qT39) κ39 ++ cs) H := hP
            have hD : va_D A (wD ad ty hv σ (up (up (up (up (up (up (up (up (up (up (up ς 0 ga1) 1 gb1) 2 (sc (na1))) 6 la1) 7 me1) 8 (sc (n81))) 9 qd1) 10 qu1) 15 (sc (b1))) 11 wT39) 12 qT39) κ39 ++ cs) := hD
            have hT39 : wfS wT39 qT39 := hT39
            have hb39 : ¬ dn σ (me1 k1) := hb39
            refine li_if_ne (tgt := 48) hx hb ⟨by decide, by decide⟩ dX1_fewest_42 (by decide) (fun c42 => ?_) (fun c42 => ?_)
            · exact absurd c42 (by decide)
            · refine lv_goto (tgt := 105) hx hb dX1_fewest_45 (by decide) ?_
              refine li_iinc (a := k1) (lv' := [(3, .int (ii (k1 + 1))), (4, .int (ii (me1 k1))), (2, .int (ii f1)), (0, .ref (ad 0)), (1, .int (ii w1))]) hx hb dX1_fewest_105 hl (k := 1) rfl (by decide) rfl (fun ls hl => ?_)
              refine lv_goto (tgt := 9) hx hb dX1_fewest_108 (by decide) ?_
              exact ih (k1 + 1) f1 κ39 wT39 qT39 b1 (hT39) (by omega) (by omega) (⟨by omega, by omega⟩) (by omega) (fewI_skip hfw (fun q => hb39 q.2)) (by omega) H locs hP hD hS ls (lv_sub hl [0, 2, 3, 4] rfl)
  exact L9 _ 0 (-4) κ1 wT1 qT1 (ς 15 0) (hT1) (by omega) (by have := hSo1.n1; omega) (⟨by decide, by decide⟩) (.inl rfl) (fewI_0 _ _ _ _ _ _) (Nat.lt_succ_self _) H locs hP hD hS ls (lv_sub hl [0, 1, 2, 3] rfl)
set_option maxHeartbeats 4000000 in
theorem m_left (l : Launch) (G : va_G) (ad : Nat → Nat) (ty : Nat → ClassId) (hv : Nat → Option Nat) (σ ς κ : mem) (cs : va_W) (w1 : Int) (t1 : Int)  (hF : okF σ) (hT : wfS (ς 11) (ς 12)) (hw : rg w1) (ht : rg t1) : cM l yX1_left (ws_ yX1_left cX1_left 4 (some .int)) (rm4 7 0 0 171) G ty (wD ad ty hv σ ς κ ++ cs) [.ref (ad 0), .int (ii w1), .int (ii t1)] 0 0 (fun r W' => ∃ (z : Int) (b : Int) (ga : Int → Int) (gb : Int → Int) (na : Int) (la : Int → Int) (me : Int → Int) (n8 : Int) (qd : Int → Int) (qu : Int → Int) (wT : Int → Int) (qT : Int → Int) (κ' : mem), r = some (.int (ii z)) ∧ W' = wD ad ty hv σ (up (up (up (up (up (up (up (up (up (up (up ς 0 ga) 1 gb) 2 (sc (na))) 6 la) 7 me) 8 (sc (n8))) 9 qd) 10 qu) 11 wT) 12 qT) 15 (sc (b))) κ' ++ cs ∧ (wfS wT qT) ∧ ((¬ ((0 ≤ w1 ∧ w1 ≤ 9999) ∧ 0 ≤ t1 ∧ t1 ≤ 1) ∧ z = -1) ∨ (((0 ≤ w1 ∧ w1 ≤ 9999) ∧ 0 ≤ t1 ∧ t1 ≤ 1) ∧ ∃ f b, IsFew σ (cdv (σ 6) (σ 7)) w1 f b ∧ z = if f = -4 ∨ t1 = 0 then f else b))) := by
  refine cM.of (by decide) (Nat.le_of_ble_eq_true rfl) ?_
  intro p e s m args below meth c A Q H locs hQ hx hb hr hml hown hlk hname hts hK hP hD hS hA hX ls hl
  have hl : lv_has ls 4 [(0, .ref (ad 0)), (1, .int (ii w1)), (2, .int (ii t1))] := hl
  obtain ⟨hwa, hwb⟩ := id hw
  obtain ⟨ht1, ht2⟩ := id ht
  refine lv_iload_n hx hb dX1_left_0 rfl (lv_at hl 1 rfl) ?_
  refine li_iconst hx hb dX1_left_1 ?_
  refine li_sipush hx hb dX1_left_2 (by decide) ?_
  refine kR (va_runS (As := [.int (ii w1), .int (ii 0), .int (ii 9999)]) (rest := []) ⟨hx, hb, hml, hown, hts⟩ (m_isIn l G ty (wD ad ty hv σ ς κ ++ cs) w1 0 9999 hw ⟨by decide, by decide⟩ ⟨by decide, by decide⟩) (va_cwS 3 hts (lw_S q117 q118 q76 q119) rfl rfl rfl (by decide +kernel) ⟨Nat.le_of_ble_eq_true rfl, Nat.le_of_ble_eq_true rfl⟩) (psR hK hP hD hX) rfl rfl hl.1 rfl (lv_room (Nat.le_of_ble_eq_true rfl)) dX1_left_5 ⟨Nat.le_of_ble_eq_true rfl, Nat.le_of_ble_eq_true rfl⟩) (fun v hv => ?_)
  obtain ⟨z5, rfl, ⟨rfl, h5⟩ | ⟨rfl, h5⟩⟩ := hv
  · refine li_if_eq (tgt := 20) hx hb ⟨by decide, by decide⟩ dX1_left_8 (by decide) (fun c8 => ?_) (fun c8 => ?_)
    · exact absurd c8 (by decide)
    · refine lv_iload_n hx hb dX1_left_11 rfl (lv_at hl 2 rfl) ?_
      refine li_iconst hx hb dX1_left_12 ?_
      refine li_iconst hx hb dX1_left_13 ?_
      refine kR (va_runS (As := [.int (ii t1), .int (ii 0), .int (ii 1)]) (rest := []) ⟨hx, hb, hml, hown, hts⟩ (m_isIn l G ty (wD ad ty hv σ ς κ ++ cs) t1 0 1 ht ⟨by decide, by decide⟩ ⟨by decide, by decide⟩) (va_cwS 3 hts (lw_S q117 q118 q76 q119) rfl rfl rfl (by decide +kernel) ⟨Nat.le_of_ble_eq_true rfl, Nat.le_of_ble_eq_true rfl⟩) (psR hK hP hD hX) rfl rfl hl.1 rfl (lv_room (Nat.le_of_ble_eq_true rfl)) dX1_left_14 ⟨Nat.le_of_ble_eq_true rfl, Nat.le_of_ble_eq_true rfl⟩) (fun v hv => ?_)
      obtain ⟨z14, rfl, ⟨rfl, h14⟩ | ⟨rfl, h14⟩⟩ := hv
      · refine li_if_ne (tgt := 22) hx hb ⟨by decide, by decide⟩ dX1_left_17 (by decide) (fun c17 => ?_) (fun c17 => ?_)
        · refine lv_aload_n hx hb dX1_left_22 rfl (lv_at hl 0 rfl) ?_
          refine lv_iload_n hx hb dX1_left_23 rfl (lv_at hl 1 rfl) ?_
          refine kM (va_runV (As := [.int (ii w1)]) (rest := []) ⟨hx, hb, hml, hown, hts⟩ ((m_fewest l G ad ty hv σ ς κ cs w1 (show okF σ from hF) (show wfS (ς 11) (ς 12) from hT) (show rg w1 from hw)) H.size) (cwV 1 hts (lw_V q674 q676 qs28 q76 q677) rfl rfl rfl (by decide +kernel) ⟨Nat.le_of_ble_eq_true rfl, Nat.le_of_ble_eq_true rfl⟩) (pvM (r := (RX1, TX1, 21)) hK hP hD hX 0 (aD_0 _ _ _ _ _ _ _) rfl) rfl rfl hl.1 rfl (lv_room (Nat.le_of_ble_eq_true rfl)) dX1_left_24 ⟨Nat.le_of_ble_eq_true rfl, Nat.le_of_ble_eq_true rfl⟩) hD hS hA (fun v ws1 H locs hv hP hD hS => ?_)
          obtain ⟨z24, b24, ga24, gb24, na24, la24, me24, n824, qd24, qu24, wT24, qT24, κ24, rfl, rfl, hT24, hz24, hzr24, hbr24⟩ := hv
          have hP : va_P G gcl (wD ad ty hv σ (up (up (up (up (up (up (up (up (up (up (up ς 0 ga24) 1 gb24) 2 (sc (na24))) 6 la24) 7 me24) 8 (sc (n824))) 9 qd24) 10 qu24) 11 wT24) 12 qT24) 15 (sc (b24))) κ24 ++ cs) H := hP
          have hD : va_D A (wD ad ty hv σ (up (up (up (up (up (up (up (up (up (up (up ς 0 ga24) 1 gb24) 2 (sc (na24))) 6 la24) 7 me24) 8 (sc (n824))) 9 qd24) 10 qu24) 11 wT24) 12 qT24) 15 (sc (b24))) κ24 ++ cs) := hD
          have hT24 : wfS wT24 qT24 := hT24
          have hz24 : IsFew σ (cdv (σ 6) (σ 7)) w1 z24 b24 := hz24
          have hzr24 : -4 ≤ z24 ∧ z24 ≤ 2 := hzr24
          have hbr24 : z24 = -4 ∨ (0 ≤ b24 ∧ b24 ≤ 1000000000) := hbr24
          refine lv_istore_n (lv' := [(3, .int (ii z24)), (0, .ref (ad 0)), (1, .int (ii w1)), (2, .int (ii t1))]) hx hb dX1_left_27 rfl hl (by decide) rfl (fun ls hl => ?_)
          refine lv_iload_n hx hb dX1_left_28 rfl (lv_at hl 0 rfl) ?_
          refine li_bipush hx hb dX1_left_29 (by decide) ?_
          refine li_icmp_eq (tgt := 38) hx hb (rg4 ⟨hzr24.1, Int.le_trans hzr24.2 (by decide)⟩) ⟨by decide, by decide⟩ dX1_left_31 (by decide) (fun c31 => ?_) (fun c31 => ?_)
          · refine lv_iload_n hx hb dX1_left_38 rfl (lv_at hl 0 rfl) ?_
            refine lv_goto (tgt := 46) hx hb dX1_left_39 (by decide) ?_
            exact eMi hQ hx hb hr hlk hP hD hS (Nat.le_of_ble_eq_true rfl) (Nat.le_of_ble_eq_true rfl) dX1_left_46 (⟨z24, b24, ga24, gb24, na24, la24, me24, n824, qd24, qu24, wT24, qT24, κ24, rfl, rfl, hT24, .inr ⟨⟨⟨by omega, by omega⟩, by omega, by omega⟩, _, _, hz24, by rw [if_pos (by omega)]⟩⟩)
          · refine lv_iload_n hx hb dX1_left_34 rfl (lv_at hl 3 rfl) ?_
            refine li_if_ne (tgt := 42) hx hb ht dX1_left_35 (by decide) (fun c35 => ?_) (fun c35 => ?_)
            · refine lv_aload_n hx hb dX1_left_42 rfl (lv_at hl 1 rfl) ?_
              refine va_get (D := G) (ci := 0) (v := .int (ii b24)) (C := RX1) (T := TX1) (N := 21) hx hb hts in_X1 hown hK hP 0 (aD_0 _ _ _ _ _ _ _) rfl 17 (by decide) (hts _ q994) (fun _ h9 => h9) rfl dX1_left_43 ?_
              exact eMi hQ hx hb hr hlk hP hD hS (Nat.le_of_ble_eq_true rfl) (Nat.le_of_ble_eq_true rfl) dX1_left_46 (⟨b24, b24, ga24, gb24, na24, la24, me24, n824, qd24, qu24, wT24, qT24, κ24, rfl, rfl, hT24, .inr ⟨⟨⟨by omega, by omega⟩, by omega, by omega⟩, _, _, hz24, by rw [if_neg (by omega)]⟩⟩)
            · refine lv_iload_n hx hb dX1_left_38 rfl (lv_at hl 0 rfl) ?_
              refine lv_goto (tgt := 46) hx hb dX1_left_39 (by decide) ?_
              exact eMi hQ hx hb hr hlk hP hD hS (Nat.le_of_ble_eq_true rfl) (Nat.le_of_ble_eq_true rfl) dX1_left_46 (⟨z24, b24, ga24, gb24, na24, la24, me24, n824, qd24, qu24, wT24, qT24, κ24, rfl, rfl, hT24, .inr ⟨⟨⟨by omega, by omega⟩, by omega, by omega⟩, _, _, hz24, by rw [if_pos (by omega)]⟩⟩)
        · exact absurd c17 (by decide)
      · refine li_if_ne (tgt := 22) hx hb ⟨by decide, by decide⟩ dX1_left_17 (by decide) (fun c17 => ?_) (fun c17 => ?_)
        · exact absurd c17 (by decide)
        · refine li_iconst hx hb dX1_left_20 ?_
          exact eMi hQ hx hb hr hlk hP hD hS (Nat.le_of_ble_eq_true rfl) (Nat.le_of_ble_eq_true rfl) dX1_left_21 (⟨-1, ς 15 0, (ς 0), (ς 1), ς 2 0, (ς 6), (ς 7), ς 8 0, (ς 9), (ς 10), (ς 11), (ς 12), κ, rfl, rfl, hT, .inl ⟨by omega, rfl⟩⟩)
  · refine li_if_eq (tgt := 20) hx hb ⟨by decide, by decide⟩ dX1_left_8 (by decide) (fun c8 => ?_) (fun c8 => ?_)
    · refine li_iconst hx hb dX1_left_20 ?_
      exact eMi hQ hx hb hr hlk hP hD hS (Nat.le_of_ble_eq_true rfl) (Nat.le_of_ble_eq_true rfl) dX1_left_21 (⟨-1, ς 15 0, (ς 0), (ς 1), ς 2 0, (ς 6), (ς 7), ς 8 0, (ς 9), (ς 10), (ς 11), (ς 12), κ, rfl, rfl, hT, .inl ⟨by omega, rfl⟩⟩)
    · exact absurd c8 (by decide)
set_option maxHeartbeats 4000000 in
theorem m_dusk (l : Launch) (G : va_G) (ad : Nat → Nat) (ty : Nat → ClassId) (hv : Nat → Option Nat) (σ ς κ : mem) (cs : va_W)   (hF : okF σ) (hT : wfS (ς 11) (ς 12)) (hdk : 0 ≤ (σ 12 0) ∧ (σ 12 0) ≤ 999) (hmi : 0 ≤ (σ 13 0) ∧ (σ 13 0) ≤ 1000000000) : cM l yX1_dusk (ws_ yX1_dusk cX1_dusk 1 (some .int)) (rm4 7 0 0 171) G ty (wD ad ty hv σ ς κ ++ cs) [.ref (ad 0)] 0 0 (fun r W' => ∃ (z : Int) (b : Int) (ga : Int → Int) (gb : Int → Int) (na : Int) (la : Int → Int) (me : Int → Int) (n8 : Int) (qd : Int → Int) (qu : Int → Int) (wT : Int → Int) (qT : Int → Int) (κ' : mem), r = some (.int (ii z)) ∧ W' = wD ad ty hv σ (up (up (up (up (up (up (up (up (up (up (up ς 0 ga) 1 gb) 2 (sc (na))) 6 la) 7 me) 8 (sc (n8))) 9 qd) 10 qu) 11 wT) 12 qT) 15 (sc (b))) κ' ++ cs ∧ (wfS wT qT) ∧ (IsFew σ (cdv (σ 6) (σ 7)) ((σ 12 0) - (σ 13 0)) z b)) := by
  refine cM.of (by decide) (Nat.le_of_ble_eq_true rfl) ?_
  intro p e s m args below meth c A Q H locs hQ hx hb hr hml hown hlk hname hts hK hP hD hS hA hX ls hl
  have hl : lv_has ls 1 [(0, .ref (ad 0))] := hl
  refine lv_aload_n hx hb dX1_dusk_0 rfl (lv_at hl 0 rfl) ?_
  refine lv_aload_n hx hb dX1_dusk_1 rfl (lv_at hl 0 rfl) ?_
  refine va_get (D := G) (ci := 0) (v := .ref (ad 1)) (C := RX1) (T := TX1) (N := 21) hx hb hts in_X1 hown hK hP 0 (aD_0 _ _ _ _ _ _ _) rfl 0 (by decide) (hts _ q977) (fun _ h9 => h9) rfl dX1_dusk_2 ?_
  refine va_get (D := G) (ci := 1) (v := .int (ii (σ 12 0))) (C := RX2) (T := TX2) (N := 13) hx hb hts in_X2 hown hK hP 1 (aD_1 _ _ _ _ _ _ _) rfl 10 (by decide) (hts _ q806) (fun _ h9 => h9) rfl dX1_dusk_5 ?_
  refine lv_aload_n hx hb dX1_dusk_8 rfl (lv_at hl 0 rfl) ?_
  refine va_get (D := G) (ci := 0) (v := .ref (ad 1)) (C := RX1) (T := TX1) (N := 21) hx hb hts in_X1 hown hK hP 0 (aD_0 _ _ _ _ _ _ _) rfl 0 (by decide) (hts _ q977) (fun _ h9 => h9) rfl dX1_dusk_9 ?_
  refine va_get (D := G) (ci := 1) (v := .int (ii (σ 13 0))) (C := RX2) (T := TX2) (N := 13) hx hb hts in_X2 hown hK hP 1 (aD_1 _ _ _ _ _ _ _) rfl 11 (by decide) (hts _ q808) (fun _ h9 => h9) rfl dX1_dusk_12 ?_
  refine li_sub hx hb dX1_dusk_15 ?_
  refine kM (va_runV (As := [.int (ii (σ 12 0 - (σ 13 0)))]) (rest := []) ⟨hx, hb, hml, hown, hts⟩ ((m_fewest l G ad ty hv σ ς κ cs (σ 12 0 - (σ 13 0)) (show okF σ from hF) (show wfS (ς 11) (ς 12) from hT) (show rg (σ 12 0 - (σ 13 0)) from ⟨by omega, by omega⟩)) H.size) (cwV 1 hts (lw_V q674 q676 qs28 q76 q677) rfl rfl rfl (by decide +kernel) ⟨Nat.le_of_ble_eq_true rfl, Nat.le_of_ble_eq_true rfl⟩) (pvM (r := (RX1, TX1, 21)) hK hP hD hX 0 (aD_0 _ _ _ _ _ _ _) rfl) rfl rfl hl.1 rfl (lv_room (Nat.le_of_ble_eq_true rfl)) dX1_dusk_16 ⟨Nat.le_of_ble_eq_true rfl, Nat.le_of_ble_eq_true rfl⟩) hD hS hA (fun v ws1 H locs hv hP hD hS => ?_)
  obtain ⟨z16, b16, ga16, gb16, na16, la16, me16, n816, qd16, qu16, wT16, qT16, κ16, rfl, rfl, hT16, hz16, hzr16, hbr16⟩ := hv
  have hP : va_P G gcl (wD ad ty hv σ (up (up (up (up (up (up (up (up (up (up (up ς 0 ga16) 1 gb16) 2 (sc (na16))) 6 la16) 7 me16) 8 (sc (n816))) 9 qd16) 10 qu16) 11 wT16) 12 qT16) 15 (sc (b16))) κ16 ++ cs) H := hP
  have hD : va_D A (wD ad ty hv σ (up (up (up (up (up (up (up (up (up (up (up ς 0 ga16) 1 gb16) 2 (sc (na16))) 6 la16) 7 me16) 8 (sc (n816))) 9 qd16) 10 qu16) 11 wT16) 12 qT16) 15 (sc (b16))) κ16 ++ cs) := hD
  have hT16 : wfS wT16 qT16 := hT16
  have hz16 : IsFew σ (cdv (σ 6) (σ 7)) (σ 12 0 - (σ 13 0)) z16 b16 := hz16
  have hzr16 : -4 ≤ z16 ∧ z16 ≤ 2 := hzr16
  have hbr16 : z16 = -4 ∨ (0 ≤ b16 ∧ b16 ≤ 1000000000) := hbr16
  exact eMi hQ hx hb hr hlk hP hD hS (Nat.le_of_ble_eq_true rfl) (Nat.le_of_ble_eq_true rfl) dX1_dusk_19 (⟨z16, b16, ga16, gb16, na16, la16, me16, n816, qd16, qu16, wT16, qT16, κ16, rfl, rfl, hT16, hz16⟩)
