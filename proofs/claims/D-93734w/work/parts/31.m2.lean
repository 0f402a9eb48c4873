/-! DownRopeModel: the state at hand, findMoves (written by gen/m2.py) -/
set_option maxRecDepth 100000
set_option maxHeartbeats 4000000 in
theorem m_stateNowM (l : Launch) (G : va_G) (am : Nat → Nat) (ty : Nat → ClassId) (τ ρ : mem) (cs : va_W)  (F : mem) (hF : okF F) (hSm : Sim F τ) (hZ : zerF F) : cR l yX12_stateNow (ws_ yX12_stateNow cX12_stateNow 3 (some .int)) (rm4 0 0 0 0) G ty (wM am ty τ ρ ++ cs) [.ref (am 0)] (fun r => r = some (.int (ii (cdv (F 6) (F 7))))) := by
  refine cR.of (by decide) (Nat.le_of_ble_eq_true rfl) ?_
  intro p e s m args below meth c Q hQ hx hb hr hml hown hlk hts hK hP hD hX ls hl
  have hl : lv_has ls 3 [(0, .ref (am 0))] := hl
  obtain ⟨hW, hWS, hlg⟩ := id hF
  obtain ⟨hw0, hw1, hw2, hw3, hw4, hw5, h8a, h8b, h9a, h9b, h10a, h10b⟩ := id hW
  obtain ⟨mL, mP, mR, mC, mK, mM, mA, mB, mD⟩ := id hSm
  have hz6 := hWS.1 0
  have hz7 := hWS.1 1
  have hz8 := hWS.1 2
  have hz9 := hWS.2 0
  have hz10 := hWS.2 1
  have hB0 : 0 < F 9 0 → τ 9 0 = F 6 0 := fun q => (mB 0 (by decide) q).2
  have hB1 : 1 < F 9 0 → τ 9 1 = F 6 1 := fun q => (mB 1 (by decide) q).2
  have hB2 : 2 < F 9 0 → τ 9 2 = F 6 2 := fun q => (mB 2 (by decide) q).2
  have hD0 : 0 < F 10 0 → τ 10 0 = F 7 0 := fun q => (mD 0 (by decide) q).2
  have hD1 : 1 < F 10 0 → τ 10 1 = F 7 1 := fun q => (mD 1 (by decide) q).2
  obtain ⟨z0, z1, z2, z3, z4⟩ := id hZ
  refine li_iconst hx hb dX12_stateNow_0 ?_
  refine lv_istore_n (lv' := [(1, .int (ii 0)), (0, .ref (am 0))]) hx hb dX12_stateNow_1 rfl hl (by decide) rfl (fun ls hl => ?_)
  refine li_iconst hx hb dX12_stateNow_2 ?_
  refine lv_istore_n (lv' := [(2, .int (ii 2)), (1, .int (ii 0)), (0, .ref (am 0))]) hx hb dX12_stateNow_3 rfl hl (by decide) rfl (fun ls hl => ?_)
  refine lv_iload_n hx hb dX12_stateNow_4 rfl (lv_at hl 0 rfl) ?_
  refine li_if_lt (tgt := 37) hx hb ⟨by decide, by decide⟩ dX12_stateNow_5 (by decide) (fun c5 => ?_) (fun c5 => ?_)
  · exact absurd c5 (by decide)
  · refine li_iconst hx hb dX12_stateNow_8 ?_
    refine lv_iload_n hx hb dX12_stateNow_9 rfl (lv_at hl 1 rfl) ?_
    refine li_mul hx hb dX12_stateNow_10 ?_
    refine li_top (b := 0) (by decide) ?_
    refine lv_iload_n hx hb dX12_stateNow_11 rfl (lv_at hl 0 rfl) ?_
    refine lv_aload_n hx hb dX12_stateNow_12 rfl (lv_at hl 2 rfl) ?_
    refine va_get (D := G) (ci := 11) (v := .int (ii (τ 5 0))) (C := RX12) (T := TX12) (N := 52) hx hb hts in_X12 hown hK hP 0 (aM_0 _ _ _ _ _) rfl 5 (by decide) (hts _ q1270) (fun _ h9 => h9) rfl dX12_stateNow_13 ?_
    have J16 : ∀ (y16_0 : Int) (_ : (((τ 5 0) ≤ 2) ∧ y16_0 = 0) ∨ ((2 < (τ 5 0)) ∧ y16_0 = τ 9 2)) (ls : Array Slot), lv_has ls 3 [(2, .int (ii 2)), (1, .int (ii 0)), (0, .ref (am 0))] → W p l e (rm4 0 0 0 0) s m args below meth c s.heap [] 0 0 Q (F0 m 29 ls [.int (ii y16_0), .int (ii 0)]) := by
      intro y16_0 hj16 ls hl
      refine li_add hx hb dX12_stateNow_29 ?_
      refine lv_istore_n (lv' := [(1, .int (ii (0 + y16_0))), (2, .int (ii 2)), (0, .ref (am 0))]) hx hb dX12_stateNow_30 rfl hl (by decide) rfl (fun ls hl => ?_)
      refine li_iinc (a := 2) (lv' := [(2, .int (ii 1)), (1, .int (ii (0 + y16_0))), (0, .ref (am 0))]) hx hb dX12_stateNow_31 hl (k := 1) rfl (by decide) rfl (fun ls hl => ?_)
      refine lv_goto (tgt := 4) hx hb dX12_stateNow_34 (by decide) ?_
      refine lv_iload_n hx hb dX12_stateNow_4 rfl (lv_at hl 0 rfl) ?_
      refine li_if_lt (tgt := 37) hx hb ⟨by decide, by decide⟩ dX12_stateNow_5 (by decide) (fun c5 => ?_) (fun c5 => ?_)
      · exact absurd c5 (by decide)
      · refine li_iconst hx hb dX12_stateNow_8 ?_
        refine lv_iload_n hx hb dX12_stateNow_9 rfl (lv_at hl 1 rfl) ?_
        refine li_mul hx hb dX12_stateNow_10 ?_
        refine lv_iload_n hx hb dX12_stateNow_11 rfl (lv_at hl 0 rfl) ?_
        refine lv_aload_n hx hb dX12_stateNow_12 rfl (lv_at hl 2 rfl) ?_
        refine va_get (D := G) (ci := 11) (v := .int (ii (τ 5 0))) (C := RX12) (T := TX12) (N := 52) hx hb hts in_X12 hown hK hP 0 (aM_0 _ _ _ _ _) rfl 5 (by decide) (hts _ q1270) (fun _ h9 => h9) rfl dX12_stateNow_13 ?_
        have J16_1 : ∀ (y16_1_0 : Int) (_ : (((τ 5 0) ≤ 1) ∧ y16_1_0 = 0) ∨ ((1 < (τ 5 0)) ∧ y16_1_0 = τ 9 1)) (ls : Array Slot), lv_has ls 3 [(2, .int (ii 1)), (1, .int (ii (0 + y16_0))), (0, .ref (am 0))] → W p l e (rm4 0 0 0 0) s m args below meth c s.heap [] 0 0 Q (F0 m 29 ls [.int (ii y16_1_0), .int (ii (5 * (0 + y16_0)))]) := by
          intro y16_1_0 hj16_1 ls hl
          refine li_add hx hb dX12_stateNow_29 ?_
          refine lv_istore_n (lv' := [(1, .int (ii (5 * (0 + y16_0) + y16_1_0))), (2, .int (ii 1)), (0, .ref (am 0))]) hx hb dX12_stateNow_30 rfl hl (by decide) rfl (fun ls hl => ?_)
          refine li_iinc (a := 1) (lv' := [(2, .int (ii 0)), (1, .int (ii (5 * (0 + y16_0) + y16_1_0))), (0, .ref (am 0))]) hx hb dX12_stateNow_31 hl (k := 1) rfl (by decide) rfl (fun ls hl => ?_)
          refine lv_goto (tgt := 4) hx hb dX12_stateNow_34 (by decide) ?_
          refine lv_iload_n hx hb dX12_stateNow_4 rfl (lv_at hl 0 rfl) ?_
          refine li_if_lt (tgt := 37) hx hb ⟨by decide, by decide⟩ dX12_stateNow_5 (by decide) (fun c5 => ?_) (fun c5 => ?_)
          · exact absurd c5 (by decide)
          · refine li_iconst hx hb dX12_stateNow_8 ?_
            refine lv_iload_n hx hb dX12_stateNow_9 rfl (lv_at hl 1 rfl) ?_
            refine li_mul hx hb dX12_stateNow_10 ?_
            refine lv_iload_n hx hb dX12_stateNow_11 rfl (lv_at hl 0 rfl) ?_
            refine lv_aload_n hx hb dX12_stateNow_12 rfl (lv_at hl 2 rfl) ?_
            refine va_get (D := G) (ci := 11) (v := .int (ii (τ 5 0))) (C := RX12) (T := TX12) (N := 52) hx hb hts in_X12 hown hK hP 0 (aM_0 _ _ _ _ _) rfl 5 (by decide) (hts _ q1270) (fun _ h9 => h9) rfl dX12_stateNow_13 ?_
            have J16_2 : ∀ (y16_2_0 : Int) (_ : (((τ 5 0) ≤ 0) ∧ y16_2_0 = 0) ∨ ((0 < (τ 5 0)) ∧ y16_2_0 = τ 9 0)) (ls : Array Slot), lv_has ls 3 [(2, .int (ii 0)), (1, .int (ii (5 * (0 + y16_0) + y16_1_0))), (0, .ref (am 0))] → W p l e (rm4 0 0 0 0) s m args below meth c s.heap [] 0 0 Q (F0 m 29 ls [.int (ii y16_2_0), .int (ii (5 * (5 * (0 + y16_0) + y16_1_0)))]) := by
              intro y16_2_0 hj16_2 ls hl
              refine li_add hx hb dX12_stateNow_29 ?_
              refine lv_istore_n (lv' := [(1, .int (ii (5 * (5 * (0 + y16_0) + y16_1_0) + y16_2_0))), (2, .int (ii 0)), (0, .ref (am 0))]) hx hb dX12_stateNow_30 rfl hl (by decide) rfl (fun ls hl => ?_)
              refine li_iinc (a := 0) (lv' := [(2, .int (ii (-1))), (1, .int (ii (5 * (5 * (0 + y16_0) + y16_1_0) + y16_2_0))), (0, .ref (am 0))]) hx hb dX12_stateNow_31 hl (k := 1) rfl (by decide) rfl (fun ls hl => ?_)
              refine lv_goto (tgt := 4) hx hb dX12_stateNow_34 (by decide) ?_
              refine lv_iload_n hx hb dX12_stateNow_4 rfl (lv_at hl 0 rfl) ?_
              refine li_if_lt (tgt := 37) hx hb ⟨by decide, by decide⟩ dX12_stateNow_5 (by decide) (fun c5 => ?_) (fun c5 => ?_)
              · refine li_bipush hx hb dX12_stateNow_37 (by decide) ?_
                refine lv_aload_n hx hb dX12_stateNow_39 rfl (lv_at hl 2 rfl) ?_
                refine va_get (D := G) (ci := 11) (v := .int (ii (τ 7 0))) (C := RX12) (T := TX12) (N := 52) hx hb hts in_X12 hown hK hP 0 (aM_0 _ _ _ _ _) rfl 7 (by decide) (hts _ q1272) (fun _ h9 => h9) rfl dX12_stateNow_40 ?_
                refine li_iconst hx hb dX12_stateNow_43 ?_
                have J44 : ∀ (y44_0 : Int) (_ : (((τ 7 0) ≤ 1) ∧ y44_0 = 0) ∨ ((1 < (τ 7 0)) ∧ y44_0 = τ 10 1)) (ls : Array Slot), lv_has ls 3 [(2, .int (ii (-1))), (1, .int (ii (5 * (5 * (0 + y16_0) + y16_1_0) + y16_2_0))), (0, .ref (am 0))] → W p l e (rm4 0 0 0 0) s m args below meth c s.heap [] 0 0 Q (F0 m 57 ls [.int (ii y44_0), .int (ii 6)]) := by
                  intro y44_0 hj44 ls hl
                  refine li_mul hx hb dX12_stateNow_57 ?_
                  refine lv_aload_n hx hb dX12_stateNow_58 rfl (lv_at hl 2 rfl) ?_
                  refine va_get (D := G) (ci := 11) (v := .int (ii (τ 7 0))) (C := RX12) (T := TX12) (N := 52) hx hb hts in_X12 hown hK hP 0 (aM_0 _ _ _ _ _) rfl 7 (by decide) (hts _ q1272) (fun _ h9 => h9) rfl dX12_stateNow_59 ?_
                  have J62 : ∀ (y62_0 : Int) (_ : (((τ 7 0) ≤ 0) ∧ y62_0 = 0) ∨ ((0 < (τ 7 0)) ∧ y62_0 = τ 10 0)) (ls : Array Slot), lv_has ls 3 [(2, .int (ii (-1))), (1, .int (ii (5 * (5 * (0 + y16_0) + y16_1_0) + y16_2_0))), (0, .ref (am 0))] → W p l e (rm4 0 0 0 0) s m args below meth c s.heap [] 0 0 Q (F0 m 75 ls [.int (ii y62_0), .int (ii (6 * y44_0))]) := by
                    intro y62_0 hj62 ls hl
                    refine li_add hx hb dX12_stateNow_75 ?_
                    refine lv_istore_n (lv' := [(2, .int (ii (6 * y44_0 + y62_0))), (1, .int (ii (5 * (5 * (0 + y16_0) + y16_1_0) + y16_2_0))), (0, .ref (am 0))]) hx hb dX12_stateNow_76 rfl hl (by decide) rfl (fun ls hl => ?_)
                    refine li_bipush hx hb dX12_stateNow_77 (by decide) ?_
                    refine lv_iload_n hx hb dX12_stateNow_79 rfl (lv_at hl 0 rfl) ?_
                    refine li_mul hx hb dX12_stateNow_80 ?_
                    refine lv_iload_n hx hb dX12_stateNow_81 rfl (lv_at hl 1 rfl) ?_
                    refine li_add hx hb dX12_stateNow_82 ?_
                    exact eRi hQ hx hb hr hlk dX12_stateNow_83 (by first | exact congrArg (fun x => some (Value.int (ii x))) (show _ = cdv (F 6) (F 7) by unfold cdv; omega))
                  refine li_if_le (tgt := 74) hx hb ⟨by omega, by omega⟩ dX12_stateNow_62 (by decide) (fun c62 => ?_) (fun c62 => ?_)
                  · refine li_iconst hx hb dX12_stateNow_74 ?_
                    exact J62 _ (.inl (⟨c62, rfl⟩)) ls (lv_sub hl [0, 1, 2] rfl)
                  · refine lv_aload_n hx hb dX12_stateNow_65 rfl (lv_at hl 2 rfl) ?_
                    refine va_get (D := G) (ci := 11) (v := .ref (am 8)) (C := RX12) (T := TX12) (N := 52) hx hb hts in_X12 hown hK hP 0 (aM_0 _ _ _ _ _) rfl 10 (by decide) (hts _ q1275) (fun _ h9 => h9) rfl dX12_stateNow_66 ?_
                    refine li_iconst hx hb dX12_stateNow_69 ?_
                    refine li_iald (g := (τ 10)) hx hb hK hP 8 0 (aM_8 _ _ _ _ _) rfl (by decide) (by decide) (by decide) dX12_stateNow_70 ?_
                    refine lv_goto (tgt := 75) hx hb dX12_stateNow_71 (by decide) ?_
                    exact J62 _ (.inr (⟨c62, rfl⟩)) ls (lv_sub hl [0, 1, 2] rfl)
                refine li_icmp_le (tgt := 56) hx hb ⟨by omega, by omega⟩ ⟨by decide, by decide⟩ dX12_stateNow_44 (by decide) (fun c44 => ?_) (fun c44 => ?_)
                · refine li_iconst hx hb dX12_stateNow_56 ?_
                  exact J44 _ (.inl (⟨c44, rfl⟩)) ls (lv_sub hl [0, 1, 2] rfl)
                · refine lv_aload_n hx hb dX12_stateNow_47 rfl (lv_at hl 2 rfl) ?_
                  refine va_get (D := G) (ci := 11) (v := .ref (am 8)) (C := RX12) (T := TX12) (N := 52) hx hb hts in_X12 hown hK hP 0 (aM_0 _ _ _ _ _) rfl 10 (by decide) (hts _ q1275) (fun _ h9 => h9) rfl dX12_stateNow_48 ?_
                  refine li_iconst hx hb dX12_stateNow_51 ?_
                  refine li_iald (g := (τ 10)) hx hb hK hP 8 0 (aM_8 _ _ _ _ _) rfl (by decide) (by decide) (by decide) dX12_stateNow_52 ?_
                  refine lv_goto (tgt := 57) hx hb dX12_stateNow_53 (by decide) ?_
                  exact J44 _ (.inr (⟨c44, rfl⟩)) ls (lv_sub hl [0, 1, 2] rfl)
              · exact absurd c5 (by decide)
            refine li_icmp_ge (tgt := 28) hx hb ⟨by decide, by decide⟩ ⟨by omega, by omega⟩ dX12_stateNow_16 (by decide) (fun c16 => ?_) (fun c16 => ?_)
            · refine li_iconst hx hb dX12_stateNow_28 ?_
              exact J16_2 _ (.inl (⟨c16, rfl⟩)) ls (lv_sub hl [0, 1, 2] rfl)
            · refine lv_aload_n hx hb dX12_stateNow_19 rfl (lv_at hl 2 rfl) ?_
              refine va_get (D := G) (ci := 11) (v := .ref (am 7)) (C := RX12) (T := TX12) (N := 52) hx hb hts in_X12 hown hK hP 0 (aM_0 _ _ _ _ _) rfl 9 (by decide) (hts _ q1274) (fun _ h9 => h9) rfl dX12_stateNow_20 ?_
              refine lv_iload_n hx hb dX12_stateNow_23 rfl (lv_at hl 0 rfl) ?_
              refine li_iald (g := (τ 9)) hx hb hK hP 7 0 (aM_7 _ _ _ _ _) rfl (by decide) (by decide) (by decide) dX12_stateNow_24 ?_
              refine lv_goto (tgt := 29) hx hb dX12_stateNow_25 (by decide) ?_
              exact J16_2 _ (.inr (⟨c16, rfl⟩)) ls (lv_sub hl [0, 1, 2] rfl)
        refine li_icmp_ge (tgt := 28) hx hb ⟨by decide, by decide⟩ ⟨by omega, by omega⟩ dX12_stateNow_16 (by decide) (fun c16 => ?_) (fun c16 => ?_)
        · refine li_iconst hx hb dX12_stateNow_28 ?_
          exact J16_1 _ (.inl (⟨c16, rfl⟩)) ls (lv_sub hl [0, 1, 2] rfl)
        · refine lv_aload_n hx hb dX12_stateNow_19 rfl (lv_at hl 2 rfl) ?_
          refine va_get (D := G) (ci := 11) (v := .ref (am 7)) (C := RX12) (T := TX12) (N := 52) hx hb hts in_X12 hown hK hP 0 (aM_0 _ _ _ _ _) rfl 9 (by decide) (hts _ q1274) (fun _ h9 => h9) rfl dX12_stateNow_20 ?_
          refine lv_iload_n hx hb dX12_stateNow_23 rfl (lv_at hl 0 rfl) ?_
          refine li_iald (g := (τ 9)) hx hb hK hP 7 0 (aM_7 _ _ _ _ _) rfl (by decide) (by decide) (by decide) dX12_stateNow_24 ?_
          refine lv_goto (tgt := 29) hx hb dX12_stateNow_25 (by decide) ?_
          exact J16_1 _ (.inr (⟨c16, rfl⟩)) ls (lv_sub hl [0, 1, 2] rfl)
    refine li_icmp_ge (tgt := 28) hx hb ⟨by decide, by decide⟩ ⟨by omega, by omega⟩ dX12_stateNow_16 (by decide) (fun c16 => ?_) (fun c16 => ?_)
    · refine li_iconst hx hb dX12_stateNow_28 ?_
      exact J16 _ (.inl (⟨c16, rfl⟩)) ls (lv_sub hl [0, 1, 2] rfl)
    · refine lv_aload_n hx hb dX12_stateNow_19 rfl (lv_at hl 2 rfl) ?_
      refine va_get (D := G) (ci := 11) (v := .ref (am 7)) (C := RX12) (T := TX12) (N := 52) hx hb hts in_X12 hown hK hP 0 (aM_0 _ _ _ _ _) rfl 9 (by decide) (hts _ q1274) (fun _ h9 => h9) rfl dX12_stateNow_20 ?_
      refine lv_iload_n hx hb dX12_stateNow_23 rfl (lv_at hl 0 rfl) ?_
      refine li_iald (g := (τ 9)) hx hb hK hP 7 0 (aM_7 _ _ _ _ _) rfl (by decide) (by decide) (by decide) dX12_stateNow_24 ?_
      refine lv_goto (tgt := 29) hx hb dX12_stateNow_25 (by decide) ?_
      exact J16 _ (.inr (⟨c16, rfl⟩)) ls (lv_sub hl [0, 1, 2] rfl)
set_option maxHeartbeats 4000000 in
theorem m_openM (l : Launch) (G : va_G) (am : Nat → Nat) (ty : Nat → ClassId) (τ ρ : mem) (cs : va_W) (c1 : Int)  (hc : inSt c1) : cM l yX12_open (ws_ yX12_open cX12_open 2 none) (rm4 0 0 0 0) G ty (wM am ty τ ρ ++ cs) [.ref (am 0), .int (ii c1)] 0 0 (fun r W' => r = none ∧ W' = wM am ty τ (up (up ρ 27 (dcw c1 (ρ 27))) 28 (dcq c1 (ρ 28))) ++ cs ∧ (alike (dcw c1 (ρ 27)) (dcq c1 (ρ 28)) (stW c1) (stQ c1))) := by
  refine cM.of (by decide) (Nat.le_of_ble_eq_true rfl) ?_
  intro p e s m args below meth c A Q H locs hQ hx hb hr hml hown hlk hname hts hK hP hD hS hA hX ls hl
  have hl : lv_has ls 2 [(0, .ref (am 0)), (1, .int (ii c1))] := hl
  obtain ⟨hc0, hc1⟩ := id hc
  refine lv_aload_n hx hb dX12_open_0 rfl (lv_at hl 0 rfl) ?_
  refine va_get (D := G) (ci := 11) (v := .ref (am 16)) (C := RX12) (T := TX12) (N := 52) hx hb hts in_X12 hown hK hP 0 (aM_0 _ _ _ _ _) rfl 27 (by decide) (hts _ q1292) (fun _ h9 => h9) rfl dX12_open_1 ?_
  refine li_iconst hx hb dX12_open_4 ?_
  refine lv_iload_n hx hb dX12_open_5 rfl (lv_at hl 1 rfl) ?_
  refine li_iconst hx hb dX12_open_6 ?_
  refine li_rem hx hb (by omega) (by omega) (by omega) (by omega) dX12_open_7 ?_
  refine li_iast (g := (ρ 27)) (W2 := wM am ty τ (up ρ 27 (ug (ρ 27) 0 (c1 % 5))) ++ cs) hx hb hK hP hD hS 16 0 (aM_16 _ _ _ _ _) rfl (by decide) (by decide) (by decide) rfl dX12_open_8 (fun H locs hP hD hS => ?_)
  refine lv_aload_n hx hb dX12_open_9 rfl (lv_at hl 0 rfl) ?_
  refine va_get (D := G) (ci := 11) (v := .ref (am 16)) (C := RX12) (T := TX12) (N := 52) hx hb hts in_X12 hown hK hP 0 (aM_0 _ _ _ _ _) rfl 27 (by decide) (hts _ q1292) (fun _ h9 => h9) rfl dX12_open_10 ?_
  refine li_iconst hx hb dX12_open_13 ?_
  refine lv_iload_n hx hb dX12_open_14 rfl (lv_at hl 1 rfl) ?_
  refine li_iconst hx hb dX12_open_15 ?_
  refine li_div hx hb (by omega) (by omega) (by omega) (by omega) dX12_open_16 ?_
  refine li_iconst hx hb dX12_open_17 ?_
  refine li_rem hx hb (by omega) (by omega) (by omega) (by omega) dX12_open_18 ?_
  refine li_iast (g := (ug (ρ 27) 0 (c1 % 5))) (W2 := wM am ty τ (up ρ 27 (ug (ug (ρ 27) 0 (c1 % 5)) 1 ((c1 / 5) % 5))) ++ cs) hx hb hK hP hD hS 16 0 (aM_16 _ _ _ _ _) rfl (by decide) (by decide) (by decide) rfl dX12_open_19 (fun H locs hP hD hS => ?_)
  refine lv_aload_n hx hb dX12_open_20 rfl (lv_at hl 0 rfl) ?_
  refine va_get (D := G) (ci := 11) (v := .ref (am 16)) (C := RX12) (T := TX12) (N := 52) hx hb hts in_X12 hown hK hP 0 (aM_0 _ _ _ _ _) rfl 27 (by decide) (hts _ q1292) (fun _ h9 => h9) rfl dX12_open_21 ?_
  refine li_iconst hx hb dX12_open_24 ?_
  refine lv_iload_n hx hb dX12_open_25 rfl (lv_at hl 1 rfl) ?_
  refine li_bipush hx hb dX12_open_26 (by decide) ?_
  refine li_div hx hb (by omega) (by omega) (by omega) (by omega) dX12_open_28 ?_
  refine li_iconst hx hb dX12_open_29 ?_
  refine li_rem hx hb (by omega) (by omega) (by omega) (by omega) dX12_open_30 ?_
  refine li_iast (g := (ug (ug (ρ 27) 0 (c1 % 5)) 1 ((c1 / 5) % 5))) (W2 := wM am ty τ (up ρ 27 (ug (ug (ug (ρ 27) 0 (c1 % 5)) 1 ((c1 / 5) % 5)) 2 ((c1 / 25) % 5))) ++ cs) hx hb hK hP hD hS 16 0 (aM_16 _ _ _ _ _) rfl (by decide) (by decide) (by decide) rfl dX12_open_31 (fun H locs hP hD hS => ?_)
  refine lv_aload_n hx hb dX12_open_32 rfl (lv_at hl 0 rfl) ?_
  refine va_get (D := G) (ci := 11) (v := .ref (am 17)) (C := RX12) (T := TX12) (N := 52) hx hb hts in_X12 hown hK hP 0 (aM_0 _ _ _ _ _) rfl 28 (by decide) (hts _ q1293) (fun _ h9 => h9) rfl dX12_open_33 ?_
  refine li_iconst hx hb dX12_open_36 ?_
  refine lv_iload_n hx hb dX12_open_37 rfl (lv_at hl 1 rfl) ?_
  refine li_bipush hx hb dX12_open_38 (by decide) ?_
  refine li_div hx hb (by omega) (by omega) (by omega) (by omega) dX12_open_40 ?_
  refine li_bipush hx hb dX12_open_41 (by decide) ?_
  refine li_rem hx hb (by omega) (by omega) (by omega) (by omega) dX12_open_43 ?_
  refine li_iast (g := (ρ 28)) (W2 := wM am ty τ (up (up ρ 27 (ug (ug (ug (ρ 27) 0 (c1 % 5)) 1 ((c1 / 5) % 5)) 2 ((c1 / 25) % 5))) 28 (ug (ρ 28) 0 ((c1 / 125) % 6))) ++ cs) hx hb hK hP hD hS 17 0 (aM_17 _ _ _ _ _) rfl (by decide) (by decide) (by decide) rfl dX12_open_44 (fun H locs hP hD hS => ?_)
  refine lv_aload_n hx hb dX12_open_45 rfl (lv_at hl 0 rfl) ?_
  refine va_get (D := G) (ci := 11) (v := .ref (am 17)) (C := RX12) (T := TX12) (N := 52) hx hb hts in_X12 hown hK hP 0 (aM_0 _ _ _ _ _) rfl 28 (by decide) (hts _ q1293) (fun _ h9 => h9) rfl dX12_open_46 ?_
  refine li_iconst hx hb dX12_open_49 ?_
  refine lv_iload_n hx hb dX12_open_50 rfl (lv_at hl 1 rfl) ?_
  refine li_sipush hx hb dX12_open_51 (by decide) ?_
  refine li_div hx hb (by omega) (by omega) (by omega) (by omega) dX12_open_54 ?_
  refine li_iast (g := (ug (ρ 28) 0 ((c1 / 125) % 6))) (W2 := wM am ty τ (up (up ρ 27 (ug (ug (ug (ρ 27) 0 (c1 % 5)) 1 ((c1 / 5) % 5)) 2 ((c1 / 25) % 5))) 28 (ug (ug (ρ 28) 0 ((c1 / 125) % 6)) 1 (c1 / 750))) ++ cs) hx hb hK hP hD hS 17 0 (aM_17 _ _ _ _ _) rfl (by decide) (by decide) (by decide) rfl dX12_open_55 (fun H locs hP hD hS => ?_)
  exact eMv hQ hx hb hr hlk hP hD hS (Nat.le_of_ble_eq_true rfl) (Nat.le_of_ble_eq_true rfl) dX12_open_56 (⟨rfl, by rw [show c1 / 750 = c1 / 750 % 6 by omega]; rfl, alike_dc _ _ _⟩)
set_option maxHeartbeats 4000000 in
theorem m_closedM (l : Launch) (G : va_G) (am : Nat → Nat) (ty : Nat → ClassId) (τ ρ : mem) (cs : va_W)   (hSt : wfS (ρ 27) (ρ 28)) : cR l yX12_closed (ws_ yX12_closed cX12_closed 1 (some .int)) (rm4 0 0 0 0) G ty (wM am ty τ ρ ++ cs) [.ref (am 0)] (fun r => r = some (.int (ii (cdv (ρ 27) (ρ 28))))) := by
  refine cR.of (by decide) (Nat.le_of_ble_eq_true rfl) ?_
  intro p e s m args below meth c Q hQ hx hb hr hml hown hlk hts hK hP hD hX ls hl
  have hl : lv_has ls 1 [(0, .ref (am 0))] := hl
  obtain ⟨hs0, hs1⟩ := id hSt
  refine li_bipush hx hb dX12_closed_0 (by decide) ?_
  refine li_bipush hx hb dX12_closed_2 (by decide) ?_
  refine lv_aload_n hx hb dX12_closed_4 rfl (lv_at hl 0 rfl) ?_
  refine va_get (D := G) (ci := 11) (v := .ref (am 17)) (C := RX12) (T := TX12) (N := 52) hx hb hts in_X12 hown hK hP 0 (aM_0 _ _ _ _ _) rfl 28 (by decide) (hts _ q1293) (fun _ h9 => h9) rfl dX12_closed_5 ?_
  refine li_iconst hx hb dX12_closed_8 ?_
  refine li_iald (g := (ρ 28)) hx hb hK hP 17 0 (aM_17 _ _ _ _ _) rfl (by decide) (by decide) (by decide) dX12_closed_9 ?_
  have r10 := hs1 1
  refine li_mul hx hb dX12_closed_10 ?_
  refine lv_aload_n hx hb dX12_closed_11 rfl (lv_at hl 0 rfl) ?_
  refine va_get (D := G) (ci := 11) (v := .ref (am 17)) (C := RX12) (T := TX12) (N := 52) hx hb hts in_X12 hown hK hP 0 (aM_0 _ _ _ _ _) rfl 28 (by decide) (hts _ q1293) (fun _ h9 => h9) rfl dX12_closed_12 ?_
  refine li_iconst hx hb dX12_closed_15 ?_
  refine li_iald (g := (ρ 28)) hx hb hK hP 17 0 (aM_17 _ _ _ _ _) rfl (by decide) (by decide) (by decide) dX12_closed_16 ?_
  have r17 := hs1 0
  refine li_add hx hb dX12_closed_17 ?_
  refine li_mul hx hb dX12_closed_18 ?_
  refine li_bipush hx hb dX12_closed_19 (by decide) ?_
  refine lv_aload_n hx hb dX12_closed_21 rfl (lv_at hl 0 rfl) ?_
  refine va_get (D := G) (ci := 11) (v := .ref (am 16)) (C := RX12) (T := TX12) (N := 52) hx hb hts in_X12 hown hK hP 0 (aM_0 _ _ _ _ _) rfl 27 (by decide) (hts _ q1292) (fun _ h9 => h9) rfl dX12_closed_22 ?_
  refine li_iconst hx hb dX12_closed_25 ?_
  refine li_iald (g := (ρ 27)) hx hb hK hP 16 0 (aM_16 _ _ _ _ _) rfl (by decide) (by decide) (by decide) dX12_closed_26 ?_
  have r27 := hs0 2
  refine li_mul hx hb dX12_closed_27 ?_
  refine li_add hx hb dX12_closed_28 ?_
  refine li_iconst hx hb dX12_closed_29 ?_
  refine lv_aload_n hx hb dX12_closed_30 rfl (lv_at hl 0 rfl) ?_
  refine va_get (D := G) (ci := 11) (v := .ref (am 16)) (C := RX12) (T := TX12) (N := 52) hx hb hts in_X12 hown hK hP 0 (aM_0 _ _ _ _ _) rfl 27 (by decide) (hts _ q1292) (fun _ h9 => h9) rfl dX12_closed_31 ?_
  refine li_iconst hx hb dX12_closed_34 ?_
  refine li_iald (g := (ρ 27)) hx hb hK hP 16 0 (aM_16 _ _ _ _ _) rfl (by decide) (by decide) (by decide) dX12_closed_35 ?_
  have r36 := hs0 1
  refine li_mul hx hb dX12_closed_36 ?_
  refine li_add hx hb dX12_closed_37 ?_
  refine lv_aload_n hx hb dX12_closed_38 rfl (lv_at hl 0 rfl) ?_
  refine va_get (D := G) (ci := 11) (v := .ref (am 16)) (C := RX12) (T := TX12) (N := 52) hx hb hts in_X12 hown hK hP 0 (aM_0 _ _ _ _ _) rfl 27 (by decide) (hts _ q1292) (fun _ h9 => h9) rfl dX12_closed_39 ?_
  refine li_iconst hx hb dX12_closed_42 ?_
  refine li_iald (g := (ρ 27)) hx hb hK hP 16 0 (aM_16 _ _ _ _ _) rfl (by decide) (by decide) (by decide) dX12_closed_43 ?_
  have r44 := hs0 0
  refine li_add hx hb dX12_closed_44 ?_
  exact eRi hQ hx hb hr hlk dX12_closed_45 (by exact congrArg (fun x => some (Value.int (ii x))) (show _ = cdv (ρ 27) (ρ 28) by unfold cdv; omega))
set_option maxHeartbeats 4000000 in
theorem m_isDownM (l : Launch) (G : va_G) (am : Nat → Nat) (ty : Nat → ClassId) (τ ρ : mem) (cs : va_W)  (F : mem) (hF : okF F) (hSm : Sim F τ) (hSt : wfS (ρ 27) (ρ 28)) : cR l yX12_isDown (ws_ yX12_isDown cX12_isDown 3 (some .boolean)) (rm4 0 0 0 0) G ty (wM am ty τ ρ ++ cs) [.ref (am 0)] (fun r => ∃ (z : Int), r = some (.int (ii z)) ∧ ((z = 1 ∧ (dnW F (ρ 27))) ∨ (z = 0 ∧ (¬ dnW F (ρ 27))))) := by
  refine cR.of (by decide) (Nat.le_of_ble_eq_true rfl) ?_
  intro p e s m args below meth c Q hQ hx hb hr hml hown hlk hts hK hP hD hX ls hl
  have hl : lv_has ls 3 [(0, .ref (am 0))] := hl
  obtain ⟨hW, hWS, hlg⟩ := id hF
  obtain ⟨hw0, hw1, hw2, hw3, hw4, hw5, h8a, h8b, h9a, h9b, h10a, h10b⟩ := id hW
  obtain ⟨mL, mP, mR, mC, mK, mM, mA, mB, mD⟩ := id hSm
  obtain ⟨hs0, hs1⟩ := id hSt
  refine li_iconst hx hb dX12_isDown_0 ?_
  refine lv_istore_n (lv' := [(1, .int (ii 1)), (0, .ref (am 0))]) hx hb dX12_isDown_1 rfl hl (by decide) rfl (fun ls hl => ?_)
  refine li_iconst hx hb dX12_isDown_2 ?_
  refine lv_istore_n (lv' := [(2, .int (ii 0)), (1, .int (ii 1)), (0, .ref (am 0))]) hx hb dX12_isDown_3 rfl hl (by decide) rfl (fun ls hl => ?_)
  refine lv_iload_n hx hb dX12_isDown_4 rfl (lv_at hl 0 rfl) ?_
  refine lv_aload_n hx hb dX12_isDown_5 rfl (lv_at hl 2 rfl) ?_
  refine va_get (D := G) (ci := 11) (v := .int (ii (τ 5 0))) (C := RX12) (T := TX12) (N := 52) hx hb hts in_X12 hown hK hP 0 (aM_0 _ _ _ _ _) rfl 5 (by decide) (hts _ q1270) (fun _ h9 => h9) rfl dX12_isDown_6 ?_
  refine li_icmp_ge (tgt := 43) hx hb ⟨by decide, by decide⟩ ⟨by omega, by omega⟩ dX12_isDown_9 (by decide) (fun c9 => ?_) (fun c9 => ?_)
  · refine lv_iload_n hx hb dX12_isDown_43 rfl (lv_at hl 1 rfl) ?_
    exact eRz hQ hx hb hr hlk dX12_isDown_44 (.inr rfl) (⟨1, rfl, by unfold dnW; omega⟩)
  · refine lv_iload_n hx hb dX12_isDown_12 rfl (lv_at hl 1 rfl) ?_
    have J13 : ∀ (y13_0 : Int) (_ : ((¬ (ρ 27 0) = (τ 0 0 - 1)) ∧ y13_0 = 0) ∨ (((ρ 27 0) = (τ 0 0 - 1)) ∧ y13_0 = 1)) (ls : Array Slot), lv_has ls 3 [(2, .int (ii 0)), (1, .int (ii 1)), (0, .ref (am 0))] → W p l e (rm4 0 0 0 0) s m args below meth c s.heap [] 0 0 Q (F0 m 36 ls [.int (ii y13_0)]) := by
      intro y13_0 hj13 ls hl
      refine lv_istore_n (lv' := [(1, .int (ii y13_0)), (2, .int (ii 0)), (0, .ref (am 0))]) hx hb dX12_isDown_36 rfl hl (by decide) rfl (fun ls hl => ?_)
      refine li_iinc (a := 0) (lv' := [(2, .int (ii 1)), (1, .int (ii y13_0)), (0, .ref (am 0))]) hx hb dX12_isDown_37 hl (k := 1) rfl (by decide) rfl (fun ls hl => ?_)
      refine lv_goto (tgt := 4) hx hb dX12_isDown_40 (by decide) ?_
      refine lv_iload_n hx hb dX12_isDown_4 rfl (lv_at hl 0 rfl) ?_
      refine lv_aload_n hx hb dX12_isDown_5 rfl (lv_at hl 2 rfl) ?_
      refine va_get (D := G) (ci := 11) (v := .int (ii (τ 5 0))) (C := RX12) (T := TX12) (N := 52) hx hb hts in_X12 hown hK hP 0 (aM_0 _ _ _ _ _) rfl 5 (by decide) (hts _ q1270) (fun _ h9 => h9) rfl dX12_isDown_6 ?_
      refine li_icmp_ge (tgt := 43) hx hb ⟨by decide, by decide⟩ ⟨by omega, by omega⟩ dX12_isDown_9 (by decide) (fun c9 => ?_) (fun c9 => ?_)
      · refine lv_iload_n hx hb dX12_isDown_43 rfl (lv_at hl 1 rfl) ?_
        exact eRz hQ hx hb hr hlk dX12_isDown_44 (by omega) (⟨y13_0, rfl, by unfold dnW; omega⟩)
      · refine lv_iload_n hx hb dX12_isDown_12 rfl (lv_at hl 1 rfl) ?_
        have J13_1 : ∀ (y13_1_0 : Int) (_ : ((y13_0 = 0) ∧ y13_1_0 = 0) ∨ ((¬ y13_0 = 0) ∧ (¬ (ρ 27 1) = (τ 0 0 - 1)) ∧ y13_1_0 = 0) ∨ ((¬ y13_0 = 0) ∧ ((ρ 27 1) = (τ 0 0 - 1)) ∧ y13_1_0 = 1)) (ls : Array Slot), lv_has ls 3 [(2, .int (ii 1)), (1, .int (ii y13_0)), (0, .ref (am 0))] → W p l e (rm4 0 0 0 0) s m args below meth c s.heap [] 0 0 Q (F0 m 36 ls [.int (ii y13_1_0)]) := by
          intro y13_1_0 hj13_1 ls hl
          refine lv_istore_n (lv' := [(1, .int (ii y13_1_0)), (2, .int (ii 1)), (0, .ref (am 0))]) hx hb dX12_isDown_36 rfl hl (by decide) rfl (fun ls hl => ?_)
          refine li_iinc (a := 1) (lv' := [(2, .int (ii 2)), (1, .int (ii y13_1_0)), (0, .ref (am 0))]) hx hb dX12_isDown_37 hl (k := 1) rfl (by decide) rfl (fun ls hl => ?_)
          refine lv_goto (tgt := 4) hx hb dX12_isDown_40 (by decide) ?_
          refine lv_iload_n hx hb dX12_isDown_4 rfl (lv_at hl 0 rfl) ?_
          refine lv_aload_n hx hb dX12_isDown_5 rfl (lv_at hl 2 rfl) ?_
          refine va_get (D := G) (ci := 11) (v := .int (ii (τ 5 0))) (C := RX12) (T := TX12) (N := 52) hx hb hts in_X12 hown hK hP 0 (aM_0 _ _ _ _ _) rfl 5 (by decide) (hts _ q1270) (fun _ h9 => h9) rfl dX12_isDown_6 ?_
          refine li_icmp_ge (tgt := 43) hx hb ⟨by decide, by decide⟩ ⟨by omega, by omega⟩ dX12_isDown_9 (by decide) (fun c9 => ?_) (fun c9 => ?_)
          · refine lv_iload_n hx hb dX12_isDown_43 rfl (lv_at hl 1 rfl) ?_
            exact eRz hQ hx hb hr hlk dX12_isDown_44 (by omega) (⟨y13_1_0, rfl, by unfold dnW; omega⟩)
          · refine lv_iload_n hx hb dX12_isDown_12 rfl (lv_at hl 1 rfl) ?_
            have J13_2 : ∀ (y13_2_0 : Int) (_ : ((y13_1_0 = 0) ∧ y13_2_0 = 0) ∨ ((¬ y13_1_0 = 0) ∧ (¬ (ρ 27 2) = (τ 0 0 - 1)) ∧ y13_2_0 = 0) ∨ ((¬ y13_1_0 = 0) ∧ ((ρ 27 2) = (τ 0 0 - 1)) ∧ y13_2_0 = 1)) (ls : Array Slot), lv_has ls 3 [(2, .int (ii 2)), (1, .int (ii y13_1_0)), (0, .ref (am 0))] → W p l e (rm4 0 0 0 0) s m args below meth c s.heap [] 0 0 Q (F0 m 36 ls [.int (ii y13_2_0)]) := by
              intro y13_2_0 hj13_2 ls hl
              refine lv_istore_n (lv' := [(1, .int (ii y13_2_0)), (2, .int (ii 2)), (0, .ref (am 0))]) hx hb dX12_isDown_36 rfl hl (by decide) rfl (fun ls hl => ?_)
              refine li_iinc (a := 2) (lv' := [(2, .int (ii 3)), (1, .int (ii y13_2_0)), (0, .ref (am 0))]) hx hb dX12_isDown_37 hl (k := 1) rfl (by decide) rfl (fun ls hl => ?_)
              refine lv_goto (tgt := 4) hx hb dX12_isDown_40 (by decide) ?_
              refine lv_iload_n hx hb dX12_isDown_4 rfl (lv_at hl 0 rfl) ?_
              refine lv_aload_n hx hb dX12_isDown_5 rfl (lv_at hl 2 rfl) ?_
              refine va_get (D := G) (ci := 11) (v := .int (ii (τ 5 0))) (C := RX12) (T := TX12) (N := 52) hx hb hts in_X12 hown hK hP 0 (aM_0 _ _ _ _ _) rfl 5 (by decide) (hts _ q1270) (fun _ h9 => h9) rfl dX12_isDown_6 ?_
              refine li_icmp_ge (tgt := 43) hx hb ⟨by decide, by decide⟩ ⟨by omega, by omega⟩ dX12_isDown_9 (by decide) (fun c9 => ?_) (fun c9 => ?_)
              · refine lv_iload_n hx hb dX12_isDown_43 rfl (lv_at hl 1 rfl) ?_
                exact eRz hQ hx hb hr hlk dX12_isDown_44 (by omega) (⟨y13_2_0, rfl, by unfold dnW; omega⟩)
              · exfalso
                omega
            refine li_if_eq (tgt := 35) hx hb ⟨by omega, by omega⟩ dX12_isDown_13 (by decide) (fun c13 => ?_) (fun c13 => ?_)
            · refine li_iconst hx hb dX12_isDown_35 ?_
              exact J13_2 _ (.inl (⟨c13, rfl⟩)) ls (lv_sub hl [0, 1, 2] rfl)
            · refine lv_aload_n hx hb dX12_isDown_16 rfl (lv_at hl 2 rfl) ?_
              refine va_get (D := G) (ci := 11) (v := .ref (am 16)) (C := RX12) (T := TX12) (N := 52) hx hb hts in_X12 hown hK hP 0 (aM_0 _ _ _ _ _) rfl 27 (by decide) (hts _ q1292) (fun _ h9 => h9) rfl dX12_isDown_17 ?_
              refine lv_iload_n hx hb dX12_isDown_20 rfl (lv_at hl 0 rfl) ?_
              refine li_iald (g := (ρ 27)) hx hb hK hP 16 0 (aM_16 _ _ _ _ _) rfl (by decide) (by decide) (by decide) dX12_isDown_21 ?_
              have r22_1 := hs0 2
              refine lv_aload_n hx hb dX12_isDown_22 rfl (lv_at hl 2 rfl) ?_
              refine va_get (D := G) (ci := 11) (v := .int (ii (τ 0 0))) (C := RX12) (T := TX12) (N := 52) hx hb hts in_X12 hown hK hP 0 (aM_0 _ _ _ _ _) rfl 0 (by decide) (hts _ q1265) (fun _ h9 => h9) rfl dX12_isDown_23 ?_
              refine li_iconst hx hb dX12_isDown_26 ?_
              refine li_sub hx hb dX12_isDown_27 ?_
              refine li_icmp_ne (tgt := 35) hx hb (rgi r22_1.1 r22_1.2) ⟨by omega, by omega⟩ dX12_isDown_28 (by decide) (fun c28 => ?_) (fun c28 => ?_)
              · refine li_iconst hx hb dX12_isDown_35 ?_
                exact J13_2 _ (.inr (.inl (⟨c13, c28, rfl⟩))) ls (lv_sub hl [0, 1, 2] rfl)
              · refine li_iconst hx hb dX12_isDown_31 ?_
                refine lv_goto (tgt := 36) hx hb dX12_isDown_32 (by decide) ?_
                exact J13_2 _ (.inr (.inr (⟨c13, c28, rfl⟩))) ls (lv_sub hl [0, 1, 2] rfl)
        refine li_if_eq (tgt := 35) hx hb ⟨by omega, by omega⟩ dX12_isDown_13 (by decide) (fun c13 => ?_) (fun c13 => ?_)
        · refine li_iconst hx hb dX12_isDown_35 ?_
          exact J13_1 _ (.inl (⟨c13, rfl⟩)) ls (lv_sub hl [0, 1, 2] rfl)
        · refine lv_aload_n hx hb dX12_isDown_16 rfl (lv_at hl 2 rfl) ?_
          refine va_get (D := G) (ci := 11) (v := .ref (am 16)) (C := RX12) (T := TX12) (N := 52) hx hb hts in_X12 hown hK hP 0 (aM_0 _ _ _ _ _) rfl 27 (by decide) (hts _ q1292) (fun _ h9 => h9) rfl dX12_isDown_17 ?_
          refine lv_iload_n hx hb dX12_isDown_20 rfl (lv_at hl 0 rfl) ?_
          refine li_iald (g := (ρ 27)) hx hb hK hP 16 0 (aM_16 _ _ _ _ _) rfl (by decide) (by decide) (by decide) dX12_isDown_21 ?_
          have r22_1 := hs0 1
          refine lv_aload_n hx hb dX12_isDown_22 rfl (lv_at hl 2 rfl) ?_
          refine va_get (D := G) (ci := 11) (v := .int (ii (τ 0 0))) (C := RX12) (T := TX12) (N := 52) hx hb hts in_X12 hown hK hP 0 (aM_0 _ _ _ _ _) rfl 0 (by decide) (hts _ q1265) (fun _ h9 => h9) rfl dX12_isDown_23 ?_
          refine li_iconst hx hb dX12_isDown_26 ?_
          refine li_sub hx hb dX12_isDown_27 ?_
          refine li_icmp_ne (tgt := 35) hx hb (rgi r22_1.1 r22_1.2) ⟨by omega, by omega⟩ dX12_isDown_28 (by decide) (fun c28 => ?_) (fun c28 => ?_)
          · refine li_iconst hx hb dX12_isDown_35 ?_
            exact J13_1 _ (.inr (.inl (⟨c13, c28, rfl⟩))) ls (lv_sub hl [0, 1, 2] rfl)
          · refine li_iconst hx hb dX12_isDown_31 ?_
            refine lv_goto (tgt := 36) hx hb dX12_isDown_32 (by decide) ?_
            exact J13_1 _ (.inr (.inr (⟨c13, c28, rfl⟩))) ls (lv_sub hl [0, 1, 2] rfl)
    refine li_if_eq (tgt := 35) hx hb ⟨by decide, by decide⟩ dX12_isDown_13 (by decide) (fun c13 => ?_) (fun c13 => ?_)
    · exact absurd c13 (by decide)
    · refine lv_aload_n hx hb dX12_isDown_16 rfl (lv_at hl 2 rfl) ?_
      refine va_get (D := G) (ci := 11) (v := .ref (am 16)) (C := RX12) (T := TX12) (N := 52) hx hb hts in_X12 hown hK hP 0 (aM_0 _ _ _ _ _) rfl 27 (by decide) (hts _ q1292) (fun _ h9 => h9) rfl dX12_isDown_17 ?_
      refine lv_iload_n hx hb dX12_isDown_20 rfl (lv_at hl 0 rfl) ?_
      refine li_iald (g := (ρ 27)) hx hb hK hP 16 0 (aM_16 _ _ _ _ _) rfl (by decide) (by decide) (by decide) dX12_isDown_21 ?_
      have r22 := hs0 0
      refine lv_aload_n hx hb dX12_isDown_22 rfl (lv_at hl 2 rfl) ?_
      refine va_get (D := G) (ci := 11) (v := .int (ii (τ 0 0))) (C := RX12) (T := TX12) (N := 52) hx hb hts in_X12 hown hK hP 0 (aM_0 _ _ _ _ _) rfl 0 (by decide) (hts _ q1265) (fun _ h9 => h9) rfl dX12_isDown_23 ?_
      refine li_iconst hx hb dX12_isDown_26 ?_
      refine li_sub hx hb dX12_isDown_27 ?_
      refine li_icmp_ne (tgt := 35) hx hb (rgi r22.1 r22.2) ⟨by omega, by omega⟩ dX12_isDown_28 (by decide) (fun c28 => ?_) (fun c28 => ?_)
      · refine li_iconst hx hb dX12_isDown_35 ?_
        exact J13 _ (.inl (⟨c28, rfl⟩)) ls (lv_sub hl [0, 1, 2] rfl)
      · refine li_iconst hx hb dX12_isDown_31 ?_
        refine lv_goto (tgt := 36) hx hb dX12_isDown_32 (by decide) ?_
        exact J13 _ (.inr (⟨c28, rfl⟩)) ls (lv_sub hl [0, 1, 2] rfl)
set_option maxHeartbeats 4000000 in
theorem m_makeM0 (l : Launch) (G : va_G) (am : Nat → Nat) (ty : Nat → ClassId) (τ ρ : mem) (cs : va_W) (m1 : Int) (F : mem) (hF : okF F) (hSm : Sim F τ) (hSt : wfS (ρ 27) (ρ 28)) (hT : isT m1) (hset : m1 / 1000 % 10 < p2 (F 9 0)) (hr3 : m1 / 10000 = 3 → m1 / 100 % 10 = 0) : cM l yX12_make (ws_ yX12_make cX12_make 8 none) (rm4 0 0 0 0) G ty (wM am ty τ ρ ++ cs) [.ref (am 0), .int (ii m1), .int (ii 0)] 0 0 (fun r W' => r = none ∧ W' = wM am ty τ (up (up ρ 27 (mvw (m1 / 1000 % 10) (m1 % 10) (ρ 27))) 28 ((mvq (m1 / 10000) (m1 / 100 % 10) (m1 % 10) (ρ 28)))) ++ cs) := by
  refine cM.of (by decide) (Nat.le_of_ble_eq_true rfl) ?_
  intro p e s m args below meth c A Q H locs hQ hx hb hr hml hown hlk hname hts hK hP hD hS hA hX ls hl
  have hl : lv_has ls 8 [(0, .ref (am 0)), (1, .int (ii m1)), (2, .int (ii 0))] := hl
  obtain ⟨hW, hWS, hlg⟩ := id hF
  obtain ⟨hw0, hw1, hw2, hw3, hw4, hw5, h8a, h8b, h9a, h9b, h10a, h10b⟩ := id hW
  obtain ⟨mL, mP, mR, mC, mK, mM, mA, mB, mD⟩ := id hSm
  obtain ⟨hs0, hs1⟩ := id hSt
  have hd := isT_m hT
  have hm0 := hT.1
  have hm1 := hT.2.1
  have hp2 : p2 (F 9 0) = if F 9 0 = 0 then 1 else if F 9 0 = 1 then 2 else if F 9 0 = 2 then 4 else 8 := rfl
  refine lv_iload_n hx hb dX12_make_0 rfl (lv_at hl 1 rfl) ?_
  refine li_sipush hx hb dX12_make_1 (by decide) ?_
  refine li_div hx hb (by omega) (by omega) (by omega) (by omega) dX12_make_4 ?_
  refine lv_istore_n (lv' := [(3, .int (ii (m1 / 10000))), (0, .ref (am 0)), (1, .int (ii m1)), (2, .int (ii 0))]) hx hb dX12_make_5 rfl hl (by decide) rfl (fun ls hl => ?_)
  refine lv_iload_n hx hb dX12_make_6 rfl (lv_at hl 2 rfl) ?_
  refine li_sipush hx hb dX12_make_7 (by decide) ?_
  refine li_div hx hb (by omega) (by omega) (by omega) (by omega) dX12_make_10 ?_
  refine li_bipush hx hb dX12_make_11 (by decide) ?_
  refine li_rem hx hb (by omega) (by omega) (by omega) (by omega) dX12_make_13 ?_
  refine lv_istore (lv' := [(4, .int (ii ((m1 / 1000) % 10))), (3, .int (ii (m1 / 10000))), (0, .ref (am 0)), (1, .int (ii m1)), (2, .int (ii 0))]) hx hb dX12_make_14 hl (by decide) rfl (fun ls hl => ?_)
  refine lv_iload_n hx hb dX12_make_16 rfl (lv_at hl 3 rfl) ?_
  refine li_bipush hx hb dX12_make_17 (by decide) ?_
  refine li_div hx hb (by omega) (by omega) (by omega) (by omega) dX12_make_19 ?_
  refine li_bipush hx hb dX12_make_20 (by decide) ?_
  refine li_rem hx hb (by omega) (by omega) (by omega) (by omega) dX12_make_22 ?_
  refine lv_istore (lv' := [(5, .int (ii ((m1 / 100) % 10))), (4, .int (ii ((m1 / 1000) % 10))), (3, .int (ii (m1 / 10000))), (0, .ref (am 0)), (1, .int (ii m1)), (2, .int (ii 0))]) hx hb dX12_make_23 hl (by decide) rfl (fun ls hl => ?_)
  refine lv_iload_n hx hb dX12_make_25 rfl (lv_at hl 4 rfl) ?_
  refine li_bipush hx hb dX12_make_26 (by decide) ?_
  refine li_rem hx hb (by omega) (by omega) (by omega) (by omega) dX12_make_28 ?_
  refine lv_istore (lv' := [(6, .int (ii (m1 % 10))), (5, .int (ii ((m1 / 100) % 10))), (4, .int (ii ((m1 / 1000) % 10))), (3, .int (ii (m1 / 10000))), (0, .ref (am 0)), (1, .int (ii m1)), (2, .int (ii 0))]) hx hb dX12_make_29 hl (by decide) rfl (fun ls hl => ?_)
  refine li_iconst hx hb dX12_make_31 ?_
  refine lv_istore (lv' := [(7, .int (ii 0)), (6, .int (ii (m1 % 10))), (5, .int (ii ((m1 / 100) % 10))), (4, .int (ii ((m1 / 1000) % 10))), (3, .int (ii (m1 / 10000))), (0, .ref (am 0)), (1, .int (ii m1)), (2, .int (ii 0))]) hx hb dX12_make_32 hl (by decide) rfl (fun ls hl => ?_)
  refine lv_iload hx hb dX12_make_34 (lv_at hl 0 rfl) ?_
  refine lv_aload_n hx hb dX12_make_36 rfl (lv_at hl 5 rfl) ?_
  refine va_get (D := G) (ci := 11) (v := .int (ii (τ 5 0))) (C := RX12) (T := TX12) (N := 52) hx hb hts in_X12 hown hK hP 0 (aM_0 _ _ _ _ _) rfl 5 (by decide) (hts _ q1270) (fun _ h9 => h9) rfl dX12_make_37 ?_
  refine li_icmp_ge (tgt := 79) hx hb ⟨by decide, by decide⟩ ⟨by omega, by omega⟩ dX12_make_40 (by decide) (fun c40 => ?_) (fun c40 => ?_)
  · refine lv_iload_n hx hb dX12_make_79 rfl (lv_at hl 4 rfl) ?_
    refine li_iconst hx hb dX12_make_80 ?_
    refine li_icmp_eq (tgt := 90) hx hb ⟨by omega, by omega⟩ ⟨by decide, by decide⟩ dX12_make_81 (by decide) (fun c81 => ?_) (fun c81 => ?_)
    · refine lv_aload_n hx hb dX12_make_90 rfl (lv_at hl 5 rfl) ?_
      refine va_get (D := G) (ci := 11) (v := .ref (am 17)) (C := RX12) (T := TX12) (N := 52) hx hb hts in_X12 hown hK hP 0 (aM_0 _ _ _ _ _) rfl 28 (by decide) (hts _ q1293) (fun _ h9 => h9) rfl dX12_make_91 ?_
      refine lv_iload hx hb dX12_make_94 (lv_at hl 2 rfl) ?_
      refine lv_iload hx hb dX12_make_96 (lv_at hl 1 rfl) ?_
      refine li_iast (g := (ρ 28)) (W2 := wM am ty τ (up ρ 28 (ug (ρ 28) ((m1 / 100) % 10) (m1 % 10))) ++ cs) hx hb hK hP hD hS 17 0 (aM_17 _ _ _ _ _) rfl (by omega) (by omega) (by decide) rfl dX12_make_98 (fun H locs hP hD hS => ?_)
      refine lv_iload_n hx hb dX12_make_99 rfl (lv_at hl 4 rfl) ?_
      refine li_iconst hx hb dX12_make_100 ?_
      refine li_icmp_ne (tgt := 112) hx hb ⟨by omega, by omega⟩ ⟨by decide, by decide⟩ dX12_make_101 (by decide) (fun c101 => ?_) (fun c101 => ?_)
      · refine lv_iload_n hx hb dX12_make_112 rfl (lv_at hl 4 rfl) ?_
        refine li_iconst hx hb dX12_make_113 ?_
        refine li_icmp_ne (tgt := 149) hx hb ⟨by omega, by omega⟩ ⟨by decide, by decide⟩ dX12_make_114 (by decide) (fun c114 => ?_) (fun c114 => ?_)
        · exact eMv hQ hx hb hr hlk hP hD hS (Nat.le_of_ble_eq_true rfl) (Nat.le_of_ble_eq_true rfl) dX12_make_149 (⟨rfl, by first | (exfalso; omega) | (have e1 : (ρ 27) = mvw (m1 / 1000 % 10) (m1 % 10) (ρ 27) := (by funext i; by_cases i0 : i = 0; (subst i0; show ρ 27 0 = mvw (m1 / 1000 % 10) (m1 % 10) (ρ 27) 0; rw [mvw_0]; split <;> omega); by_cases i1 : i = 1; (subst i1; show ρ 27 1 = mvw (m1 / 1000 % 10) (m1 % 10) (ρ 27) 1; rw [mvw_1]; split <;> omega); by_cases i2 : i = 2; (subst i2; show ρ 27 2 = mvw (m1 / 1000 % 10) (m1 % 10) (ρ 27) 2; rw [mvw_2]; split <;> omega); (rw [mvw_x i0 i1 i2])); have e2 : (ug (ρ 28) ((m1 / 100) % 10) (m1 % 10)) = (mvq (m1 / 10000) (m1 / 100 % 10) (m1 % 10) (ρ 28)) := (by unfold mvq; by_cases q1 : m1 / 10000 = 1 ∨ m1 / 10000 = 6; (first | exact (if_pos q1).symm | (exfalso; omega)); rw [if_neg q1]; by_cases q2 : m1 / 10000 = 2; (first | exact (if_pos q2).symm | (exfalso; omega)); rw [if_neg q2]; by_cases q3 : m1 / 10000 = 3; (first | (exfalso; omega) | (rw [if_pos q3, hr3 q3])); (first | exact (if_neg q3).symm | (exfalso; omega))); have e3 := congr (congrArg (fun (a b : Int → Int) => wM am ty τ (up (up ρ 27 a) 28 b) ++ cs) e1) e2; exact e3)⟩)
        · refine lv_aload_n hx hb dX12_make_117 rfl (lv_at hl 5 rfl) ?_
          refine va_get (D := G) (ci := 11) (v := .ref (am 17)) (C := RX12) (T := TX12) (N := 52) hx hb hts in_X12 hown hK hP 0 (aM_0 _ _ _ _ _) rfl 28 (by decide) (hts _ q1293) (fun _ h9 => h9) rfl dX12_make_118 ?_
          refine li_iconst hx hb dX12_make_121 ?_
          refine lv_iload_n hx hb dX12_make_122 rfl (lv_at hl 7 rfl) ?_
          refine li_if_eq (tgt := 130) hx hb ⟨by decide, by decide⟩ dX12_make_123 (by decide) (fun c123 => ?_) (fun c123 => ?_)
          · refine lv_iload hx hb dX12_make_130 (lv_at hl 1 rfl) ?_
            refine li_iast (g := (ug (ρ 28) ((m1 / 100) % 10) (m1 % 10))) (W2 := wM am ty τ (up ρ 28 (ug (ug (ρ 28) ((m1 / 100) % 10) (m1 % 10)) 0 (m1 % 10))) ++ cs) hx hb hK hP hD hS 17 0 (aM_17 _ _ _ _ _) rfl (by decide) (by decide) (by decide) rfl dX12_make_132 (fun H locs hP hD hS => ?_)
            refine lv_aload_n hx hb dX12_make_133 rfl (lv_at hl 5 rfl) ?_
            refine va_get (D := G) (ci := 11) (v := .ref (am 17)) (C := RX12) (T := TX12) (N := 52) hx hb hts in_X12 hown hK hP 0 (aM_0 _ _ _ _ _) rfl 28 (by decide) (hts _ q1293) (fun _ h9 => h9) rfl dX12_make_134 ?_
            refine li_iconst hx hb dX12_make_137 ?_
            refine lv_iload_n hx hb dX12_make_138 rfl (lv_at hl 7 rfl) ?_
            refine li_if_eq (tgt := 146) hx hb ⟨by decide, by decide⟩ dX12_make_139 (by decide) (fun c139 => ?_) (fun c139 => ?_)
            · refine lv_iload hx hb dX12_make_146 (lv_at hl 1 rfl) ?_
              refine li_iast (g := (ug (ug (ρ 28) ((m1 / 100) % 10) (m1 % 10)) 0 (m1 % 10))) (W2 := wM am ty τ (up ρ 28 (ug (ug (ug (ρ 28) ((m1 / 100) % 10) (m1 % 10)) 0 (m1 % 10)) 1 (m1 % 10))) ++ cs) hx hb hK hP hD hS 17 0 (aM_17 _ _ _ _ _) rfl (by decide) (by decide) (by decide) rfl dX12_make_148 (fun H locs hP hD hS => ?_)
              exact eMv hQ hx hb hr hlk hP hD hS (Nat.le_of_ble_eq_true rfl) (Nat.le_of_ble_eq_true rfl) dX12_make_149 (⟨rfl, by first | (exfalso; omega) | (have e1 : (ρ 27) = mvw (m1 / 1000 % 10) (m1 % 10) (ρ 27) := (by funext i; by_cases i0 : i = 0; (subst i0; show ρ 27 0 = mvw (m1 / 1000 % 10) (m1 % 10) (ρ 27) 0; rw [mvw_0]; split <;> omega); by_cases i1 : i = 1; (subst i1; show ρ 27 1 = mvw (m1 / 1000 % 10) (m1 % 10) (ρ 27) 1; rw [mvw_1]; split <;> omega); by_cases i2 : i = 2; (subst i2; show ρ 27 2 = mvw (m1 / 1000 % 10) (m1 % 10) (ρ 27) 2; rw [mvw_2]; split <;> omega); (rw [mvw_x i0 i1 i2])); have e2 : (ug (ug (ug (ρ 28) ((m1 / 100) % 10) (m1 % 10)) 0 (m1 % 10)) 1 (m1 % 10)) = (mvq (m1 / 10000) (m1 / 100 % 10) (m1 % 10) (ρ 28)) := (by unfold mvq; by_cases q1 : m1 / 10000 = 1 ∨ m1 / 10000 = 6; (first | exact (if_pos q1).symm | (exfalso; omega)); rw [if_neg q1]; by_cases q2 : m1 / 10000 = 2; (first | exact (if_pos q2).symm | (exfalso; omega)); rw [if_neg q2]; by_cases q3 : m1 / 10000 = 3; (first | (exfalso; omega) | (rw [if_pos q3, hr3 q3])); (first | exact (if_neg q3).symm | (exfalso; omega))); have e3 := congr (congrArg (fun (a b : Int → Int) => wM am ty τ (up (up ρ 27 a) 28 b) ++ cs) e1) e2; exact e3)⟩)
            · exact absurd c139 (by decide)
          · exact absurd c123 (by decide)
      · refine lv_aload_n hx hb dX12_make_104 rfl (lv_at hl 5 rfl) ?_
        refine va_get (D := G) (ci := 11) (v := .ref (am 17)) (C := RX12) (T := TX12) (N := 52) hx hb hts in_X12 hown hK hP 0 (aM_0 _ _ _ _ _) rfl 28 (by decide) (hts _ q1293) (fun _ h9 => h9) rfl dX12_make_105 ?_
        refine lv_iload hx hb dX12_make_108 (lv_at hl 2 rfl) ?_
        refine li_iconst hx hb dX12_make_110 ?_
        refine li_iast (g := (ug (ρ 28) ((m1 / 100) % 10) (m1 % 10))) (W2 := wM am ty τ (up ρ 28 (ug (ug (ρ 28) ((m1 / 100) % 10) (m1 % 10)) ((m1 / 100) % 10) 5)) ++ cs) hx hb hK hP hD hS 17 0 (aM_17 _ _ _ _ _) rfl (by omega) (by omega) (by decide) rfl dX12_make_111 (fun H locs hP hD hS => ?_)
        refine lv_iload_n hx hb dX12_make_112 rfl (lv_at hl 4 rfl) ?_
        refine li_iconst hx hb dX12_make_113 ?_
        refine li_icmp_ne (tgt := 149) hx hb ⟨by omega, by omega⟩ ⟨by decide, by decide⟩ dX12_make_114 (by decide) (fun c114 => ?_) (fun c114 => ?_)
        · exact eMv hQ hx hb hr hlk hP hD hS (Nat.le_of_ble_eq_true rfl) (Nat.le_of_ble_eq_true rfl) dX12_make_149 (⟨rfl, by first | (exfalso; omega) | (have e1 : (ρ 27) = mvw (m1 / 1000 % 10) (m1 % 10) (ρ 27) := (by funext i; by_cases i0 : i = 0; (subst i0; show ρ 27 0 = mvw (m1 / 1000 % 10) (m1 % 10) (ρ 27) 0; rw [mvw_0]; split <;> omega); by_cases i1 : i = 1; (subst i1; show ρ 27 1 = mvw (m1 / 1000 % 10) (m1 % 10) (ρ 27) 1; rw [mvw_1]; split <;> omega); by_cases i2 : i = 2; (subst i2; show ρ 27 2 = mvw (m1 / 1000 % 10) (m1 % 10) (ρ 27) 2; rw [mvw_2]; split <;> omega); (rw [mvw_x i0 i1 i2])); have e2 : (ug (ug (ρ 28) ((m1 / 100) % 10) (m1 % 10)) ((m1 / 100) % 10) 5) = (mvq (m1 / 10000) (m1 / 100 % 10) (m1 % 10) (ρ 28)) := (by unfold mvq; by_cases q1 : m1 / 10000 = 1 ∨ m1 / 10000 = 6; (first | exact (if_pos q1).symm | (exfalso; omega)); rw [if_neg q1]; by_cases q2 : m1 / 10000 = 2; (first | exact (if_pos q2).symm | (exfalso; omega)); rw [if_neg q2]; by_cases q3 : m1 / 10000 = 3; (first | (exfalso; omega) | (rw [if_pos q3, hr3 q3])); (first | exact (if_neg q3).symm | (exfalso; omega))); have e3 := congr (congrArg (fun (a b : Int → Int) => wM am ty τ (up (up ρ 27 a) 28 b) ++ cs) e1) e2; exact e3)⟩)
        · refine lv_aload_n hx hb dX12_make_117 rfl (lv_at hl 5 rfl) ?_
          refine va_get (D := G) (ci := 11) (v := .ref (am 17)) (C := RX12) (T := TX12) (N := 52) hx hb hts in_X12 hown hK hP 0 (aM_0 _ _ _ _ _) rfl 28 (by decide) (hts _ q1293) (fun _ h9 => h9) rfl dX12_make_118 ?_
          refine li_iconst hx hb dX12_make_121 ?_
          refine lv_iload_n hx hb dX12_make_122 rfl (lv_at hl 7 rfl) ?_
          refine li_if_eq (tgt := 130) hx hb ⟨by decide, by decide⟩ dX12_make_123 (by decide) (fun c123 => ?_) (fun c123 => ?_)
          · refine lv_iload hx hb dX12_make_130 (lv_at hl 1 rfl) ?_
            refine li_iast (g := (ug (ug (ρ 28) ((m1 / 100) % 10) (m1 % 10)) ((m1 / 100) % 10) 5)) (W2 := wM am ty τ (up ρ 28 (ug (ug (ug (ρ 28) ((m1 / 100) % 10) (m1 % 10)) ((m1 / 100) % 10) 5) 0 (m1 % 10))) ++ cs) hx hb hK hP hD hS 17 0 (aM_17 _ _ _ _ _) rfl (by decide) (by decide) (by decide) rfl dX12_make_132 (fun H locs hP hD hS => ?_)
            refine lv_aload_n hx hb dX12_make_133 rfl (lv_at hl 5 rfl) ?_
            refine va_get (D := G) (ci := 11) (v := .ref (am 17)) (C := RX12) (T := TX12) (N := 52) hx hb hts in_X12 hown hK hP 0 (aM_0 _ _ _ _ _) rfl 28 (by decide) (hts _ q1293) (fun _ h9 => h9) rfl dX12_make_134 ?_
            refine li_iconst hx hb dX12_make_137 ?_
            refine lv_iload_n hx hb dX12_make_138 rfl (lv_at hl 7 rfl) ?_
            refine li_if_eq (tgt := 146) hx hb ⟨by decide, by decide⟩ dX12_make_139 (by decide) (fun c139 => ?_) (fun c139 => ?_)
            · refine lv_iload hx hb dX12_make_146 (lv_at hl 1 rfl) ?_
              refine li_iast (g := (ug (ug (ug (ρ 28) ((m1 / 100) % 10) (m1 % 10)) ((m1 / 100) % 10) 5) 0 (m1 % 10))) (W2 := wM am ty τ (up ρ 28 (ug (ug (ug (ug (ρ 28) ((m1 / 100) % 10) (m1 % 10)) ((m1 / 100) % 10) 5) 0 (m1 % 10)) 1 (m1 % 10))) ++ cs) hx hb hK hP hD hS 17 0 (aM_17 _ _ _ _ _) rfl (by decide) (by decide) (by decide) rfl dX12_make_148 (fun H locs hP hD hS => ?_)
              exact eMv hQ hx hb hr hlk hP hD hS (Nat.le_of_ble_eq_true rfl) (Nat.le_of_ble_eq_true rfl) dX12_make_149 (⟨rfl, by first | (exfalso; omega) | (have e1 : (ρ 27) = mvw (m1 / 1000 % 10) (m1 % 10) (ρ 27) := (by funext i; by_cases i0 : i = 0; (subst i0; show ρ 27 0 = mvw (m1 / 1000 % 10) (m1 % 10) (ρ 27) 0; rw [mvw_0]; split <;> omega); by_cases i1 : i = 1; (subst i1; show ρ 27 1 = mvw (m1 / 1000 % 10) (m1 % 10) (ρ 27) 1; rw [mvw_1]; split <;> omega); by_cases i2 : i = 2; (subst i2; show ρ 27 2 = mvw (m1 / 1000 % 10) (m1 % 10) (ρ 27) 2; rw [mvw_2]; split <;> omega); (rw [mvw_x i0 i1 i2])); have e2 : (ug (ug (ug (ug (ρ 28) ((m1 / 100) % 10) (m1 % 10)) ((m1 / 100) % 10) 5) 0 (m1 % 10)) 1 (m1 % 10)) = (mvq (m1 / 10000) (m1 / 100 % 10) (m1 % 10) (ρ 28)) := (by unfold mvq; by_cases q1 : m1 / 10000 = 1 ∨ m1 / 10000 = 6; (first | exact (if_pos q1).symm | (exfalso; omega)); rw [if_neg q1]; by_cases q2 : m1 / 10000 = 2; (first | exact (if_pos q2).symm | (exfalso; omega)); rw [if_neg q2]; by_cases q3 : m1 / 10000 = 3; (first | (exfalso; omega) | (rw [if_pos q3, hr3 q3])); (first | exact (if_neg q3).symm | (exfalso; omega))); have e3 := congr (congrArg (fun (a b : Int → Int) => wM am ty τ (up (up ρ 27 a) 28 b) ++ cs) e1) e2; exact e3)⟩)
            · exact absurd c139 (by decide)
          · exact absurd c123 (by decide)
    · refine lv_iload_n hx hb dX12_make_84 rfl (lv_at hl 4 rfl) ?_
      refine li_bipush hx hb dX12_make_85 (by decide) ?_
      refine li_icmp_ne (tgt := 99) hx hb ⟨by omega, by omega⟩ ⟨by decide, by decide⟩ dX12_make_87 (by decide) (fun c87 => ?_) (fun c87 => ?_)
      · refine lv_iload_n hx hb dX12_make_99 rfl (lv_at hl 4 rfl) ?_
        refine li_iconst hx hb dX12_make_100 ?_
        refine li_icmp_ne (tgt := 112) hx hb ⟨by omega, by omega⟩ ⟨by decide, by decide⟩ dX12_make_101 (by decide) (fun c101 => ?_) (fun c101 => ?_)
        · refine lv_iload_n hx hb dX12_make_112 rfl (lv_at hl 4 rfl) ?_
          refine li_iconst hx hb dX12_make_113 ?_
          refine li_icmp_ne (tgt := 149) hx hb ⟨by omega, by omega⟩ ⟨by decide, by decide⟩ dX12_make_114 (by decide) (fun c114 => ?_) (fun c114 => ?_)
          · exact eMv hQ hx hb hr hlk hP hD hS (Nat.le_of_ble_eq_true rfl) (Nat.le_of_ble_eq_true rfl) dX12_make_149 (⟨rfl, by first | (exfalso; omega) | (have e1 : (ρ 27) = mvw (m1 / 1000 % 10) (m1 % 10) (ρ 27) := (by funext i; by_cases i0 : i = 0; (subst i0; show ρ 27 0 = mvw (m1 / 1000 % 10) (m1 % 10) (ρ 27) 0; rw [mvw_0]; split <;> omega); by_cases i1 : i = 1; (subst i1; show ρ 27 1 = mvw (m1 / 1000 % 10) (m1 % 10) (ρ 27) 1; rw [mvw_1]; split <;> omega); by_cases i2 : i = 2; (subst i2; show ρ 27 2 = mvw (m1 / 1000 % 10) (m1 % 10) (ρ 27) 2; rw [mvw_2]; split <;> omega); (rw [mvw_x i0 i1 i2])); have e2 : (ρ 28) = (mvq (m1 / 10000) (m1 / 100 % 10) (m1 % 10) (ρ 28)) := (by unfold mvq; by_cases q1 : m1 / 10000 = 1 ∨ m1 / 10000 = 6; (first | exact (if_pos q1).symm | (exfalso; omega)); rw [if_neg q1]; by_cases q2 : m1 / 10000 = 2; (first | exact (if_pos q2).symm | (exfalso; omega)); rw [if_neg q2]; by_cases q3 : m1 / 10000 = 3; (first | (exfalso; omega) | (rw [if_pos q3, hr3 q3])); (first | exact (if_neg q3).symm | (exfalso; omega))); have e3 := congr (congrArg (fun (a b : Int → Int) => wM am ty τ (up (up ρ 27 a) 28 b) ++ cs) e1) e2; exact e3)⟩)
          · refine lv_aload_n hx hb dX12_make_117 rfl (lv_at hl 5 rfl) ?_
            refine va_get (D := G) (ci := 11) (v := .ref (am 17)) (C := RX12) (T := TX12) (N := 52) hx hb hts in_X12 hown hK hP 0 (aM_0 _ _ _ _ _) rfl 28 (by decide) (hts _ q1293) (fun _ h9 => h9) rfl dX12_make_118 ?_
            refine li_iconst hx hb dX12_make_121 ?_
            refine lv_iload_n hx hb dX12_make_122 rfl (lv_at hl 7 rfl) ?_
            refine li_if_eq (tgt := 130) hx hb ⟨by decide, by decide⟩ dX12_make_123 (by decide) (fun c123 => ?_) (fun c123 => ?_)
            · refine lv_iload hx hb dX12_make_130 (lv_at hl 1 rfl) ?_
              refine li_iast (g := (ρ 28)) (W2 := wM am ty τ (up ρ 28 (ug (ρ 28) 0 (m1 % 10))) ++ cs) hx hb hK hP hD hS 17 0 (aM_17 _ _ _ _ _) rfl (by decide) (by decide) (by decide) rfl dX12_make_132 (fun H locs hP hD hS => ?_)
              refine lv_aload_n hx hb dX12_make_133 rfl (lv_at hl 5 rfl) ?_
              refine va_get (D := G) (ci := 11) (v := .ref (am 17)) (C := RX12) (T := TX12) (N := 52) hx hb hts in_X12 hown hK hP 0 (aM_0 _ _ _ _ _) rfl 28 (by decide) (hts _ q1293) (fun _ h9 => h9) rfl dX12_make_134 ?_
              refine li_iconst hx hb dX12_make_137 ?_
              refine lv_iload_n hx hb dX12_make_138 rfl (lv_at hl 7 rfl) ?_
              refine li_if_eq (tgt := 146) hx hb ⟨by decide, by decide⟩ dX12_make_139 (by decide) (fun c139 => ?_) (fun c139 => ?_)
              · refine lv_iload hx hb dX12_make_146 (lv_at hl 1 rfl) ?_
                refine li_iast (g := (ug (ρ 28) 0 (m1 % 10))) (W2 := wM am ty τ (up ρ 28 (ug (ug (ρ 28) 0 (m1 % 10)) 1 (m1 % 10))) ++ cs) hx hb hK hP hD hS 17 0 (aM_17 _ _ _ _ _) rfl (by decide) (by decide) (by decide) rfl dX12_make_148 (fun H locs hP hD hS => ?_)
                exact eMv hQ hx hb hr hlk hP hD hS (Nat.le_of_ble_eq_true rfl) (Nat.le_of_ble_eq_true rfl) dX12_make_149 (⟨rfl, by first | (exfalso; omega) | (have e1 : (ρ 27) = mvw (m1 / 1000 % 10) (m1 % 10) (ρ 27) := (by funext i; by_cases i0 : i = 0; (subst i0; show ρ 27 0 = mvw (m1 / 1000 % 10) (m1 % 10) (ρ 27) 0; rw [mvw_0]; split <;> omega); by_cases i1 : i = 1; (subst i1; show ρ 27 1 = mvw (m1 / 1000 % 10) (m1 % 10) (ρ 27) 1; rw [mvw_1]; split <;> omega); by_cases i2 : i = 2; (subst i2; show ρ 27 2 = mvw (m1 / 1000 % 10) (m1 % 10) (ρ 27) 2; rw [mvw_2]; split <;> omega); (rw [mvw_x i0 i1 i2])); have e2 : (ug (ug (ρ 28) 0 (m1 % 10)) 1 (m1 % 10)) = (mvq (m1 / 10000) (m1 / 100 % 10) (m1 % 10) (ρ 28)) := (by unfold mvq; by_cases q1 : m1 / 10000 = 1 ∨ m1 / 10000 = 6; (first | exact (if_pos q1).symm | (exfalso; omega)); rw [if_neg q1]; by_cases q2 : m1 / 10000 = 2; (first | exact (if_pos q2).symm | (exfalso; omega)); rw [if_neg q2]; by_cases q3 : m1 / 10000 = 3; (first | (exfalso; omega) | (rw [if_pos q3, hr3 q3])); (first | exact (if_neg q3).symm | (exfalso; omega))); have e3 := congr (congrArg (fun (a b : Int → Int) => wM am ty τ (up (up ρ 27 a) 28 b) ++ cs) e1) e2; exact e3)⟩)
              · exact absurd c139 (by decide)
            · exact absurd c123 (by decide)
        · refine lv_aload_n hx hb dX12_make_104 rfl (lv_at hl 5 rfl) ?_
          refine va_get (D := G) (ci := 11) (v := .ref (am 17)) (C := RX12) (T := TX12) (N := 52) hx hb hts in_X12 hown hK hP 0 (aM_0 _ _ _ _ _) rfl 28 (by decide) (hts _ q1293) (fun _ h9 => h9) rfl dX12_make_105 ?_
          refine lv_iload hx hb dX12_make_108 (lv_at hl 2 rfl) ?_
          refine li_iconst hx hb dX12_make_110 ?_
          refine li_iast (g := (ρ 28)) (W2 := wM am ty τ (up ρ 28 (ug (ρ 28) ((m1 / 100) % 10) 5)) ++ cs) hx hb hK hP hD hS 17 0 (aM_17 _ _ _ _ _) rfl (by omega) (by omega) (by decide) rfl dX12_make_111 (fun H locs hP hD hS => ?_)
          refine lv_iload_n hx hb dX12_make_112 rfl (lv_at hl 4 rfl) ?_
          refine li_iconst hx hb dX12_make_113 ?_
          refine li_icmp_ne (tgt := 149) hx hb ⟨by omega, by omega⟩ ⟨by decide, by decide⟩ dX12_make_114 (by decide) (fun c114 => ?_) (fun c114 => ?_)
          · exact eMv hQ hx hb hr hlk hP hD hS (Nat.le_of_ble_eq_true rfl) (Nat.le_of_ble_eq_true rfl) dX12_make_149 (⟨rfl, by first | (exfalso; omega) | (have e1 : (ρ 27) = mvw (m1 / 1000 % 10) (m1 % 10) (ρ 27) := (by funext i; by_cases i0 : i = 0; (subst i0; show ρ 27 0 = mvw (m1 / 1000 % 10) (m1 % 10) (ρ 27) 0; rw [mvw_0]; split <;> omega); by_cases i1 : i = 1; (subst i1; show ρ 27 1 = mvw (m1 / 1000 % 10) (m1 % 10) (ρ 27) 1; rw [mvw_1]; split <;> omega); by_cases i2 : i = 2; (subst i2; show ρ 27 2 = mvw (m1 / 1000 % 10) (m1 % 10) (ρ 27) 2; rw [mvw_2]; split <;> omega); (rw [mvw_x i0 i1 i2])); have e2 : (ug (ρ 28) ((m1 / 100) % 10) 5) = (mvq (m1 / 10000) (m1 / 100 % 10) (m1 % 10) (ρ 28)) := (by unfold mvq; by_cases q1 : m1 / 10000 = 1 ∨ m1 / 10000 = 6; (first | exact (if_pos q1).symm | (exfalso; omega)); rw [if_neg q1]; by_cases q2 : m1 / 10000 = 2; (first | exact (if_pos q2).symm | (exfalso; omega)); rw [if_neg q2]; by_cases q3 : m1 / 10000 = 3; (first | (exfalso; omega) | (rw [if_pos q3, hr3 q3])); (first | exact (if_neg q3).symm | (exfalso; omega))); have e3 := congr (congrArg (fun (a b : Int → Int) => wM am ty τ (up (up ρ 27 a) 28 b) ++ cs) e1) e2; exact e3)⟩)
          · refine lv_aload_n hx hb dX12_make_117 rfl (lv_at hl 5 rfl) ?_
            refine va_get (D := G) (ci := 11) (v := .ref (am 17)) (C := RX12) (T := TX12) (N := 52) hx hb hts in_X12 hown hK hP 0 (aM_0 _ _ _ _ _) rfl 28 (by decide) (hts _ q1293) (fun _ h9 => h9) rfl dX12_make_118 ?_
            refine li_iconst hx hb dX12_make_121 ?_
            refine lv_iload_n hx hb dX12_make_122 rfl (lv_at hl 7 rfl) ?_
            refine li_if_eq (tgt := 130) hx hb ⟨by decide, by decide⟩ dX12_make_123 (by decide) (fun c123 => ?_) (fun c123 => ?_)
            · refine lv_iload hx hb dX12_make_130 (lv_at hl 1 rfl) ?_
              refine li_iast (g := (ug (ρ 28) ((m1 / 100) % 10) 5)) (W2 := wM am ty τ (up ρ 28 (ug (ug (ρ 28) ((m1 / 100) % 10) 5) 0 (m1 % 10))) ++ cs) hx hb hK hP hD hS 17 0 (aM_17 _ _ _ _ _) rfl (by decide) (by decide) (by decide) rfl dX12_make_132 (fun H locs hP hD hS => ?_)
              refine lv_aload_n hx hb dX12_make_133 rfl (lv_at hl 5 rfl) ?_
              refine va_get (D := G) (ci := 11) (v := .ref (am 17)) (C := RX12) (T := TX12) (N := 52) hx hb hts in_X12 hown hK hP 0 (aM_0 _ _ _ _ _) rfl 28 (by decide) (hts _ q1293) (fun _ h9 => h9) rfl dX12_make_134 ?_
              refine li_iconst hx hb dX12_make_137 ?_
              refine lv_iload_n hx hb dX12_make_138 rfl (lv_at hl 7 rfl) ?_
              refine li_if_eq (tgt := 146) hx hb ⟨by decide, by decide⟩ dX12_make_139 (by decide) (fun c139 => ?_) (fun c139 => ?_)
              · refine lv_iload hx hb dX12_make_146 (lv_at hl 1 rfl) ?_
                refine li_iast (g := (ug (ug (ρ 28) ((m1 / 100) % 10) 5) 0 (m1 % 10))) (W2 := wM am ty τ (up ρ 28 (ug (ug (ug (ρ 28) ((m1 / 100) % 10) 5) 0 (m1 % 10)) 1 (m1 % 10))) ++ cs) hx hb hK hP hD hS 17 0 (aM_17 _ _ _ _ _) rfl (by decide) (by decide) (by decide) rfl dX12_make_148 (fun H locs hP hD hS => ?_)
                exact eMv hQ hx hb hr hlk hP hD hS (Nat.le_of_ble_eq_true rfl) (Nat.le_of_ble_eq_true rfl) dX12_make_149 (⟨rfl, by first | (exfalso; omega) | (have e1 : (ρ 27) = mvw (m1 / 1000 % 10) (m1 % 10) (ρ 27) := (by funext i; by_cases i0 : i = 0; (subst i0; show ρ 27 0 = mvw (m1 / 1000 % 10) (m1 % 10) (ρ 27) 0; rw [mvw_0]; split <;> omega); by_cases i1 : i = 1; (subst i1; show ρ 27 1 = mvw (m1 / 1000 % 10) (m1 % 10) (ρ 27) 1; rw [mvw_1]; split <;> omega); by_cases i2 : i = 2; (subst i2; show ρ 27 2 = mvw (m1 / 1000 % 10) (m1 % 10) (ρ 27) 2; rw [mvw_2]; split <;> omega); (rw [mvw_x i0 i1 i2])); have e2 : (ug (ug (ug (ρ 28) ((m1 / 100) % 10) 5) 0 (m1 % 10)) 1 (m1 % 10)) = (mvq (m1 / 10000) (m1 / 100 % 10) (m1 % 10) (ρ 28)) := (by unfold mvq; by_cases q1 : m1 / 10000 = 1 ∨ m1 / 10000 = 6; (first | exact (if_pos q1).symm | (exfalso; omega)); rw [if_neg q1]; by_cases q2 : m1 / 10000 = 2; (first | exact (if_pos q2).symm | (exfalso; omega)); rw [if_neg q2]; by_cases q3 : m1 / 10000 = 3; (first | (exfalso; omega) | (rw [if_pos q3, hr3 q3])); (first | exact (if_neg q3).symm | (exfalso; omega))); have e3 := congr (congrArg (fun (a b : Int → Int) => wM am ty τ (up (up ρ 27 a) 28 b) ++ cs) e1) e2; exact e3)⟩)
              · exact absurd c139 (by decide)
            · exact absurd c123 (by decide)
      · refine lv_aload_n hx hb dX12_make_90 rfl (lv_at hl 5 rfl) ?_
        refine va_get (D := G) (ci := 11) (v := .ref (am 17)) (C := RX12) (T := TX12) (N := 52) hx hb hts in_X12 hown hK hP 0 (aM_0 _ _ _ _ _) rfl 28 (by decide) (hts _ q1293) (fun _ h9 => h9) rfl dX12_make_91 ?_
        refine lv_iload hx hb dX12_make_94 (lv_at hl 2 rfl) ?_
        refine lv_iload hx hb dX12_make_96 (lv_at hl 1 rfl) ?_
        refine li_iast (g := (ρ 28)) (W2 := wM am ty τ (up ρ 28 (ug (ρ 28) ((m1 / 100) % 10) (m1 % 10))) ++ cs) hx hb hK hP hD hS 17 0 (aM_17 _ _ _ _ _) rfl (by omega) (by omega) (by decide) rfl dX12_make_98 (fun H locs hP hD hS => ?_)
        refine lv_iload_n hx hb dX12_make_99 rfl (lv_at hl 4 rfl) ?_
        refine li_iconst hx hb dX12_make_100 ?_
        refine li_icmp_ne (tgt := 112) hx hb ⟨by omega, by omega⟩ ⟨by decide, by decide⟩ dX12_make_101 (by decide) (fun c101 => ?_) (fun c101 => ?_)
        · refine lv_iload_n hx hb dX12_make_112 rfl (lv_at hl 4 rfl) ?_
          refine li_iconst hx hb dX12_make_113 ?_
          refine li_icmp_ne (tgt := 149) hx hb ⟨by omega, by omega⟩ ⟨by decide, by decide⟩ dX12_make_114 (by decide) (fun c114 => ?_) (fun c114 => ?_)
          · exact eMv hQ hx hb hr hlk hP hD hS (Nat.le_of_ble_eq_true rfl) (Nat.le_of_ble_eq_true rfl) dX12_make_149 (⟨rfl, by first | (exfalso; omega) | (have e1 : (ρ 27) = mvw (m1 / 1000 % 10) (m1 % 10) (ρ 27) := (by funext i; by_cases i0 : i = 0; (subst i0; show ρ 27 0 = mvw (m1 / 1000 % 10) (m1 % 10) (ρ 27) 0; rw [mvw_0]; split <;> omega); by_cases i1 : i = 1; (subst i1; show ρ 27 1 = mvw (m1 / 1000 % 10) (m1 % 10) (ρ 27) 1; rw [mvw_1]; split <;> omega); by_cases i2 : i = 2; (subst i2; show ρ 27 2 = mvw (m1 / 1000 % 10) (m1 % 10) (ρ 27) 2; rw [mvw_2]; split <;> omega); (rw [mvw_x i0 i1 i2])); have e2 : (ug (ρ 28) ((m1 / 100) % 10) (m1 % 10)) = (mvq (m1 / 10000) (m1 / 100 % 10) (m1 % 10) (ρ 28)) := (by unfold mvq; by_cases q1 : m1 / 10000 = 1 ∨ m1 / 10000 = 6; (first | exact (if_pos q1).symm | (exfalso; omega)); rw [if_neg q1]; by_cases q2 : m1 / 10000 = 2; (first | exact (if_pos q2).symm | (exfalso; omega)); rw [if_neg q2]; by_cases q3 : m1 / 10000 = 3; (first | (exfalso; omega) | (rw [if_pos q3, hr3 q3])); (first | exact (if_neg q3).symm | (exfalso; omega))); have e3 := congr (congrArg (fun (a b : Int → Int) => wM am ty τ (up (up ρ 27 a) 28 b) ++ cs) e1) e2; exact e3)⟩)
          · refine lv_aload_n hx hb dX12_make_117 rfl (lv_at hl 5 rfl) ?_
            refine va_get (D := G) (ci := 11) (v := .ref (am 17)) (C := RX12) (T := TX12) (N := 52) hx hb hts in_X12 hown hK hP 0 (aM_0 _ _ _ _ _) rfl 28 (by decide) (hts _ q1293) (fun _ h9 => h9) rfl dX12_make_118 ?_
            refine li_iconst hx hb dX12_make_121 ?_
            refine lv_iload_n hx hb dX12_make_122 rfl (lv_at hl 7 rfl) ?_
            refine li_if_eq (tgt := 130) hx hb ⟨by decide, by decide⟩ dX12_make_123 (by decide) (fun c123 => ?_) (fun c123 => ?_)
            · refine lv_iload hx hb dX12_make_130 (lv_at hl 1 rfl) ?_
              refine li_iast (g := (ug (ρ 28) ((m1 / 100) % 10) (m1 % 10))) (W2 := wM am ty τ (up ρ 28 (ug (ug (ρ 28) ((m1 / 100) % 10) (m1 % 10)) 0 (m1 % 10))) ++ cs) hx hb hK hP hD hS 17 0 (aM_17 _ _ _ _ _) rfl (by decide) (by decide) (by decide) rfl dX12_make_132 (fun H locs hP hD hS => ?_)
              refine lv_aload_n hx hb dX12_make_133 rfl (lv_at hl 5 rfl) ?_
              refine va_get (D := G) (ci := 11) (v := .ref (am 17)) (C := RX12) (T := TX12) (N := 52) hx hb hts in_X12 hown hK hP 0 (aM_0 _ _ _ _ _) rfl 28 (by decide) (hts _ q1293) (fun _ h9 => h9) rfl dX12_make_134 ?_
              refine li_iconst hx hb dX12_make_137 ?_
              refine lv_iload_n hx hb dX12_make_138 rfl (lv_at hl 7 rfl) ?_
              refine li_if_eq (tgt := 146) hx hb ⟨by decide, by decide⟩ dX12_make_139 (by decide) (fun c139 => ?_) (fun c139 => ?_)
              · refine lv_iload hx hb dX12_make_146 (lv_at hl 1 rfl) ?_
                refine li_iast (g := (ug (ug (ρ 28) ((m1 / 100) % 10) (m1 % 10)) 0 (m1 % 10))) (W2 := wM am ty τ (up ρ 28 (ug (ug (ug (ρ 28) ((m1 / 100) % 10) (m1 % 10)) 0 (m1 % 10)) 1 (m1 % 10))) ++ cs) hx hb hK hP hD hS 17 0 (aM_17 _ _ _ _ _) rfl (by decide) (by decide) (by decide) rfl dX12_make_148 (fun H locs hP hD hS => ?_)
                exact eMv hQ hx hb hr hlk hP hD hS (Nat.le_of_ble_eq_true rfl) (Nat.le_of_ble_eq_true rfl) dX12_make_149 (⟨rfl, by first | (exfalso; omega) | (have e1 : (ρ 27) = mvw (m1 / 1000 % 10) (m1 % 10) (ρ 27) := (by funext i; by_cases i0 : i = 0; (subst i0; show ρ 27 0 = mvw (m1 / 1000 % 10) (m1 % 10) (ρ 27) 0; rw [mvw_0]; split <;> omega); by_cases i1 : i = 1; (subst i1; show ρ 27 1 = mvw (m1 / 1000 % 10) (m1 % 10) (ρ 27) 1; rw [mvw_1]; split <;> omega); by_cases i2 : i = 2; (subst i2; show ρ 27 2 = mvw (m1 / 1000 % 10) (m1 % 10) (ρ 27) 2; rw [mvw_2]; split <;> omega); (rw [mvw_x i0 i1 i2])); have e2 : (ug (ug (ug (ρ 28) ((m1 / 100) % 10) (m1 % 10)) 0 (m1 % 10)) 1 (m1 % 10)) = (mvq (m1 / 10000) (m1 / 100 % 10) (m1 % 10) (ρ 28)) := (by unfold mvq; by_cases q1 : m1 / 10000 = 1 ∨ m1 / 10000 = 6; (first | exact (if_pos q1).symm | (exfalso; omega)); rw [if_neg q1]; by_cases q2 : m1 / 10000 = 2; (first | exact (if_pos q2).symm | (exfalso; omega)); rw [if_neg q2]; by_cases q3 : m1 / 10000 = 3; (first | (exfalso; omega) | (rw [if_pos q3, hr3 q3])); (first | exact (if_neg q3).symm | (exfalso; omega))); have e3 := congr (congrArg (fun (a b : Int → Int) => wM am ty τ (up (up ρ 27 a) 28 b) ++ cs) e1) e2; exact e3)⟩)
              · exact absurd c139 (by decide)
            · exact absurd c123 (by decide)
        · refine lv_aload_n hx hb dX12_make_104 rfl (lv_at hl 5 rfl) ?_
          refine va_get (D := G) (ci := 11) (v := .ref (am 17)) (C := RX12) (T := TX12) (N := 52) hx hb hts in_X12 hown hK hP 0 (aM_0 _ _ _ _ _) rfl 28 (by decide) (hts _ q1293) (fun _ h9 => h9) rfl dX12_make_105 ?_
          refine lv_iload hx hb dX12_make_108 (lv_at hl 2 rfl) ?_
          refine li_iconst hx hb dX12_make_110 ?_
          refine li_iast (g := (ug (ρ 28) ((m1 / 100) % 10) (m1 % 10))) (W2 := wM am ty τ (up ρ 28 (ug (ug (ρ 28) ((m1 / 100) % 10) (m1 % 10)) ((m1 / 100) % 10) 5)) ++ cs) hx hb hK hP hD hS 17 0 (aM_17 _ _ _ _ _) rfl (by omega) (by omega) (by decide) rfl dX12_make_111 (fun H locs hP hD hS => ?_)
          refine lv_iload_n hx hb dX12_make_112 rfl (lv_at hl 4 rfl) ?_
          refine li_iconst hx hb dX12_make_113 ?_
          refine li_icmp_ne (tgt := 149) hx hb ⟨by omega, by omega⟩ ⟨by decide, by decide⟩ dX12_make_114 (by decide) (fun c114 => ?_) (fun c114 => ?_)
          · exact eMv hQ hx hb hr hlk hP hD hS (Nat.le_of_ble_eq_true rfl) (Nat.le_of_ble_eq_true rfl) dX12_make_149 (⟨rfl, by first | (exfalso; omega) | (have e1 : (ρ 27) = mvw (m1 / 1000 % 10) (m1 % 10) (ρ 27) := (by funext i; by_cases i0 : i = 0; (subst i0; show ρ 27 0 = mvw (m1 / 1000 % 10) (m1 % 10) (ρ 27) 0; rw [mvw_0]; split <;> omega); by_cases i1 : i = 1; (subst i1; show ρ 27 1 = mvw (m1 / 1000 % 10) (m1 % 10) (ρ 27) 1; rw [mvw_1]; split <;> omega); by_cases i2 : i = 2; (subst i2; show ρ 27 2 = mvw (m1 / 1000 % 10) (m1 % 10) (ρ 27) 2; rw [mvw_2]; split <;> omega); (rw [mvw_x i0 i1 i2])); have e2 : (ug (ug (ρ 28) ((m1 / 100) % 10) (m1 % 10)) ((m1 / 100) % 10) 5) = (mvq (m1 / 10000) (m1 / 100 % 10) (m1 % 10) (ρ 28)) := (by unfold mvq; by_cases q1 : m1 / 10000 = 1 ∨ m1 / 10000 = 6; (first | exact (if_pos q1).symm | (exfalso; omega)); rw [if_neg q1]; by_cases q2 : m1 / 10000 = 2; (first | exact (if_pos q2).symm | (exfalso; omega)); rw [if_neg q2]; by_cases q3 : m1 / 10000 = 3; (first | (exfalso; omega) | (rw [if_pos q3, hr3 q3])); (first | exact (if_neg q3).symm | (exfalso; omega))); have e3 := congr (congrArg (fun (a b : Int → Int) => wM am ty τ (up (up ρ 27 a) 28 b) ++ cs) e1) e2; exact e3)⟩)
          · refine lv_aload_n hx hb dX12_make_117 rfl (lv_at hl 5 rfl) ?_
            refine va_get (D := G) (ci := 11) (v := .ref (am 17)) (C := RX12) (T := TX12) (N := 52) hx hb hts in_X12 hown hK hP 0 (aM_0 _ _ _ _ _) rfl 28 (by decide) (hts _ q1293) (fun _ h9 => h9) rfl dX12_make_118 ?_
            refine li_iconst hx hb dX12_make_121 ?_
            refine lv_iload_n hx hb dX12_make_122 rfl (lv_at hl 7 rfl) ?_
            refine li_if_eq (tgt := 130) hx hb ⟨by decide, by decide⟩ dX12_make_123 (by decide) (fun c123 => ?_) (fun c123 => ?_)
            · refine lv_iload hx hb dX12_make_130 (lv_at hl 1 rfl) ?_
              refine li_iast (g := (ug (ug (ρ 28) ((m1 / 100) % 10) (m1 % 10)) ((m1 / 100) % 10) 5)) (W2 := wM am ty τ (up ρ 28 (ug (ug (ug (ρ 28) ((m1 / 100) % 10) (m1 % 10)) ((m1 / 100) % 10) 5) 0 (m1 % 10))) ++ cs) hx hb hK hP hD hS 17 0 (aM_17 _ _ _ _ _) rfl (by decide) (by decide) (by decide) rfl dX12_make_132 (fun H locs hP hD hS => ?_)
              refine lv_aload_n hx hb dX12_make_133 rfl (lv_at hl 5 rfl) ?_
              refine va_get (D := G) (ci := 11) (v := .ref (am 17)) (C := RX12) (T := TX12) (N := 52) hx hb hts in_X12 hown hK hP 0 (aM_0 _ _ _ _ _) rfl 28 (by decide) (hts _ q1293) (fun _ h9 => h9) rfl dX12_make_134 ?_
              refine li_iconst hx hb dX12_make_137 ?_
              refine lv_iload_n hx hb dX12_make_138 rfl (lv_at hl 7 rfl) ?_
              refine li_if_eq (tgt := 146) hx hb ⟨by decide, by decide⟩ dX12_make_139 (by decide) (fun c139 => ?_) (fun c139 => ?_)
              · refine lv_iload hx hb dX12_make_146 (lv_at hl 1 rfl) ?_
                refine li_iast (g := (ug (ug (ug (ρ 28) ((m1 / 100) % 10) (m1 % 10)) ((m1 / 100) % 10) 5) 0 (m1 % 10))) (W2 := wM am ty τ (up ρ 28 (ug (ug (ug (ug (ρ 28) ((m1 / 100) % 10) (m1 % 10)) ((m1 / 100) % 10) 5) 0 (m1 % 10)) 1 (m1 % 10))) ++ cs) hx hb hK hP hD hS 17 0 (aM_17 _ _ _ _ _) rfl (by decide) (by decide) (by decide) rfl dX12_make_148 (fun H locs hP hD hS => ?_)
                exact eMv hQ hx hb hr hlk hP hD hS (Nat.le_of_ble_eq_true rfl) (Nat.le_of_ble_eq_true rfl) dX12_make_149 (⟨rfl, by first | (exfalso; omega) | (have e1 : (ρ 27) = mvw (m1 / 1000 % 10) (m1 % 10) (ρ 27) := (by funext i; by_cases i0 : i = 0; (subst i0; show ρ 27 0 = mvw (m1 / 1000 % 10) (m1 % 10) (ρ 27) 0; rw [mvw_0]; split <;> omega); by_cases i1 : i = 1; (subst i1; show ρ 27 1 = mvw (m1 / 1000 % 10) (m1 % 10) (ρ 27) 1; rw [mvw_1]; split <;> omega); by_cases i2 : i = 2; (subst i2; show ρ 27 2 = mvw (m1 / 1000 % 10) (m1 % 10) (ρ 27) 2; rw [mvw_2]; split <;> omega); (rw [mvw_x i0 i1 i2])); have e2 : (ug (ug (ug (ug (ρ 28) ((m1 / 100) % 10) (m1 % 10)) ((m1 / 100) % 10) 5) 0 (m1 % 10)) 1 (m1 % 10)) = (mvq (m1 / 10000) (m1 / 100 % 10) (m1 % 10) (ρ 28)) := (by unfold mvq; by_cases q1 : m1 / 10000 = 1 ∨ m1 / 10000 = 6; (first | exact (if_pos q1).symm | (exfalso; omega)); rw [if_neg q1]; by_cases q2 : m1 / 10000 = 2; (first | exact (if_pos q2).symm | (exfalso; omega)); rw [if_neg q2]; by_cases q3 : m1 / 10000 = 3; (first | (exfalso; omega) | (rw [if_pos q3, hr3 q3])); (first | exact (if_neg q3).symm | (exfalso; omega))); have e3 := congr (congrArg (fun (a b : Int → Int) => wM am ty τ (up (up ρ 27 a) 28 b) ++ cs) e1) e2; exact e3)⟩)
              · exact absurd c139 (by decide)
            · exact absurd c123 (by decide)
  · refine lv_aload_n hx hb dX12_make_43 rfl (lv_at hl 5 rfl) ?_
    refine va_get (D := G) (ci := 11) (v := .ref (am 16)) (C := RX12) (T := TX12) (N := 52) hx hb hts in_X12 hown hK hP 0 (aM_0 _ _ _ _ _) rfl 27 (by decide) (hts _ q1292) (fun _ h9 => h9) rfl dX12_make_44 ?_
    refine lv_iload hx hb dX12_make_47 (lv_at hl 0 rfl) ?_
    refine lv_iload hx hb dX12_make_49 (lv_at hl 3 rfl) ?_
    refine lv_iload hx hb dX12_make_51 (lv_at hl 0 rfl) ?_
    refine lv_ishr hx hb dX12_make_53 ?_
    refine li_topx (z := (m1 / 1000) % 10) (ii_shr0 (by omega) (by omega)) ?_
    refine li_iconst hx hb dX12_make_54 ?_
    refine lv_iand hx hb dX12_make_55 ?_
    refine li_topx (z := ((m1 / 1000) % 10) % 2) (ii_and1 (by omega) (by omega)) ?_
    refine li_iconst hx hb dX12_make_56 ?_
    have J57 : ∀ (y57_0 : Int) (_ : ((¬ (((m1 / 1000) % 10) % 2) = 1) ∧ y57_0 = ρ 27 0) ∨ (((((m1 / 1000) % 10) % 2) = 1) ∧ y57_0 = m1 % 10)) (H : Heap) (locs : List Loc) (_ : va_P G gcl (wM am ty τ ρ ++ cs) H) (_ : va_D A (wM am ty τ ρ ++ cs)) (_ : va_S A s.heap H locs) (ls : Array Slot), lv_has ls 8 [(7, .int (ii 0)), (6, .int (ii (m1 % 10))), (5, .int (ii ((m1 / 100) % 10))), (4, .int (ii ((m1 / 1000) % 10))), (3, .int (ii (m1 / 10000))), (0, .ref (am 0)), (1, .int (ii m1)), (2, .int (ii 0))] → W p l e (rm4 0 0 0 0) s m args below meth c H locs 0 0 Q (F0 m 72 ls [.int (ii y57_0), .int (ii 0), .ref (am 16)]) := by
      intro y57_0 hj57 H locs hP hD hS ls hl
      refine li_iast (g := (ρ 27)) (W2 := wM am ty τ (up ρ 27 (ug (ρ 27) 0 y57_0)) ++ cs) hx hb hK hP hD hS 16 0 (aM_16 _ _ _ _ _) rfl (by decide) (by decide) (by decide) rfl dX12_make_72 (fun H locs hP hD hS => ?_)
      refine li_iinc (a := 0) (lv' := [(7, .int (ii 1)), (6, .int (ii (m1 % 10))), (5, .int (ii ((m1 / 100) % 10))), (4, .int (ii ((m1 / 1000) % 10))), (3, .int (ii (m1 / 10000))), (0, .ref (am 0)), (1, .int (ii m1)), (2, .int (ii 0))]) hx hb dX12_make_73 hl (k := 0) rfl (by decide) rfl (fun ls hl => ?_)
      refine lv_goto (tgt := 34) hx hb dX12_make_76 (by decide) ?_
      refine lv_iload hx hb dX12_make_34 (lv_at hl 0 rfl) ?_
      refine lv_aload_n hx hb dX12_make_36 rfl (lv_at hl 5 rfl) ?_
      refine va_get (D := G) (ci := 11) (v := .int (ii (τ 5 0))) (C := RX12) (T := TX12) (N := 52) hx hb hts in_X12 hown hK hP 0 (aM_0 _ _ _ _ _) rfl 5 (by decide) (hts _ q1270) (fun _ h9 => h9) rfl dX12_make_37 ?_
      refine li_icmp_ge (tgt := 79) hx hb ⟨by decide, by decide⟩ ⟨by omega, by omega⟩ dX12_make_40 (by decide) (fun c40 => ?_) (fun c40 => ?_)
      · refine lv_iload_n hx hb dX12_make_79 rfl (lv_at hl 4 rfl) ?_
        refine li_iconst hx hb dX12_make_80 ?_
        refine li_icmp_eq (tgt := 90) hx hb ⟨by omega, by omega⟩ ⟨by decide, by decide⟩ dX12_make_81 (by decide) (fun c81 => ?_) (fun c81 => ?_)
        · refine lv_aload_n hx hb dX12_make_90 rfl (lv_at hl 5 rfl) ?_
          refine va_get (D := G) (ci := 11) (v := .ref (am 17)) (C := RX12) (T := TX12) (N := 52) hx hb hts in_X12 hown hK hP 0 (aM_0 _ _ _ _ _) rfl 28 (by decide) (hts _ q1293) (fun _ h9 => h9) rfl dX12_make_91 ?_
          refine lv_iload hx hb dX12_make_94 (lv_at hl 2 rfl) ?_
          refine lv_iload hx hb dX12_make_96 (lv_at hl 1 rfl) ?_
          refine li_iast (g := (ρ 28)) (W2 := wM am ty τ (up (up ρ 27 (ug (ρ 27) 0 y57_0)) 28 (ug (ρ 28) ((m1 / 100) % 10) (m1 % 10))) ++ cs) hx hb hK hP hD hS 17 0 (aM_17 _ _ _ _ _) rfl (by omega) (by omega) (by decide) rfl dX12_make_98 (fun H locs hP hD hS => ?_)
          refine lv_iload_n hx hb dX12_make_99 rfl (lv_at hl 4 rfl) ?_
          refine li_iconst hx hb dX12_make_100 ?_
          refine li_icmp_ne (tgt := 112) hx hb ⟨by omega, by omega⟩ ⟨by decide, by decide⟩ dX12_make_101 (by decide) (fun c101 => ?_) (fun c101 => ?_)
          · refine lv_iload_n hx hb dX12_make_112 rfl (lv_at hl 4 rfl) ?_
            refine li_iconst hx hb dX12_make_113 ?_
            refine li_icmp_ne (tgt := 149) hx hb ⟨by omega, by omega⟩ ⟨by decide, by decide⟩ dX12_make_114 (by decide) (fun c114 => ?_) (fun c114 => ?_)
            · exact eMv hQ hx hb hr hlk hP hD hS (Nat.le_of_ble_eq_true rfl) (Nat.le_of_ble_eq_true rfl) dX12_make_149 (⟨rfl, by first | (exfalso; omega) | (have e1 : (ug (ρ 27) 0 y57_0) = mvw (m1 / 1000 % 10) (m1 % 10) (ρ 27) := (by funext i; by_cases i0 : i = 0; (subst i0; show y57_0 = mvw (m1 / 1000 % 10) (m1 % 10) (ρ 27) 0; rw [mvw_0]; split <;> omega); by_cases i1 : i = 1; (subst i1; show ρ 27 1 = mvw (m1 / 1000 % 10) (m1 % 10) (ρ 27) 1; rw [mvw_1]; split <;> omega); by_cases i2 : i = 2; (subst i2; show ρ 27 2 = mvw (m1 / 1000 % 10) (m1 % 10) (ρ 27) 2; rw [mvw_2]; split <;> omega); (rw [mvw_x i0 i1 i2, ug_n i0])); have e2 : (ug (ρ 28) ((m1 / 100) % 10) (m1 % 10)) = (mvq (m1 / 10000) (m1 / 100 % 10) (m1 % 10) (ρ 28)) := (by unfold mvq; by_cases q1 : m1 / 10000 = 1 ∨ m1 / 10000 = 6; (first | exact (if_pos q1).symm | (exfalso; omega)); rw [if_neg q1]; by_cases q2 : m1 / 10000 = 2; (first | exact (if_pos q2).symm | (exfalso; omega)); rw [if_neg q2]; by_cases q3 : m1 / 10000 = 3; (first | (exfalso; omega) | (rw [if_pos q3, hr3 q3])); (first | exact (if_neg q3).symm | (exfalso; omega))); have e3 := congr (congrArg (fun (a b : Int → Int) => wM am ty τ (up (up ρ 27 a) 28 b) ++ cs) e1) e2; exact e3)⟩)
            · refine lv_aload_n hx hb dX12_make_117 rfl (lv_at hl 5 rfl) ?_
              refine va_get (D := G) (ci := 11) (v := .ref (am 17)) (C := RX12) (T := TX12) (N := 52) hx hb hts in_X12 hown hK hP 0 (aM_0 _ _ _ _ _) rfl 28 (by decide) (hts _ q1293) (fun _ h9 => h9) rfl dX12_make_118 ?_
              refine li_iconst hx hb dX12_make_121 ?_
              refine lv_iload_n hx hb dX12_make_122 rfl (lv_at hl 7 rfl) ?_
              refine li_if_eq (tgt := 130) hx hb ⟨by decide, by decide⟩ dX12_make_123 (by decide) (fun c123 => ?_) (fun c123 => ?_)
              · refine lv_iload hx hb dX12_make_130 (lv_at hl 1 rfl) ?_
                refine li_iast (g := (ug (ρ 28) ((m1 / 100) % 10) (m1 % 10))) (W2 := wM am ty τ (up (up ρ 27 (ug (ρ 27) 0 y57_0)) 28 (ug (ug (ρ 28) ((m1 / 100) % 10) (m1 % 10)) 0 (m1 % 10))) ++ cs) hx hb hK hP hD hS 17 0 (aM_17 _ _ _ _ _) rfl (by decide) (by decide) (by decide) rfl dX12_make_132 (fun H locs hP hD hS => ?_)
                refine lv_aload_n hx hb dX12_make_133 rfl (lv_at hl 5 rfl) ?_
                refine va_get (D := G) (ci := 11) (v := .ref (am 17)) (C := RX12) (T := TX12) (N := 52) hx hb hts in_X12 hown hK hP 0 (aM_0 _ _ _ _ _) rfl 28 (by decide) (hts _ q1293) (fun _ h9 => h9) rfl dX12_make_134 ?_
                refine li_iconst hx hb dX12_make_137 ?_
                refine lv_iload_n hx hb dX12_make_138 rfl (lv_at hl 7 rfl) ?_
                refine li_if_eq (tgt := 146) hx hb ⟨by decide, by decide⟩ dX12_make_139 (by decide) (fun c139 => ?_) (fun c139 => ?_)
                · refine lv_iload hx hb dX12_make_146 (lv_at hl 1 rfl) ?_
                  refine li_iast (g := (ug (ug (ρ 28) ((m1 / 100) % 10) (m1 % 10)) 0 (m1 % 10))) (W2 := wM am ty τ (up (up ρ 27 (ug (ρ 27) 0 y57_0)) 28 (ug (ug (ug (ρ 28) ((m1 / 100) % 10) (m1 % 10)) 0 (m1 % 10)) 1 (m1 % 10))) ++ cs) hx hb hK hP hD hS 17 0 (aM_17 _ _ _ _ _) rfl (by decide) (by decide) (by decide) rfl dX12_make_148 (fun H locs hP hD hS => ?_)
                  exact eMv hQ hx hb hr hlk hP hD hS (Nat.le_of_ble_eq_true rfl) (Nat.le_of_ble_eq_true rfl) dX12_make_149 (⟨rfl, by first | (exfalso; omega) | (have e1 : (ug (ρ 27) 0 y57_0) = mvw (m1 / 1000 % 10) (m1 % 10) (ρ 27) := (by funext i; by_cases i0 : i = 0; (subst i0; show y57_0 = mvw (m1 / 1000 % 10) (m1 % 10) (ρ 27) 0; rw [mvw_0]; split <;> omega); by_cases i1 : i = 1; (subst i1; show ρ 27 1 = mvw (m1 / 1000 % 10) (m1 % 10) (ρ 27) 1; rw [mvw_1]; split <;> omega); by_cases i2 : i = 2; (subst i2; show ρ 27 2 = mvw (m1 / 1000 % 10) (m1 % 10) (ρ 27) 2; rw [mvw_2]; split <;> omega); (rw [mvw_x i0 i1 i2, ug_n i0])); have e2 : (ug (ug (ug (ρ 28) ((m1 / 100) % 10) (m1 % 10)) 0 (m1 % 10)) 1 (m1 % 10)) = (mvq (m1 / 10000) (m1 / 100 % 10) (m1 % 10) (ρ 28)) := (by unfold mvq; by_cases q1 : m1 / 10000 = 1 ∨ m1 / 10000 = 6; (first | exact (if_pos q1).symm | (exfalso; omega)); rw [if_neg q1]; by_cases q2 : m1 / 10000 = 2; (first | exact (if_pos q2).symm | (exfalso; omega)); rw [if_neg q2]; by_cases q3 : m1 / 10000 = 3; (first | (exfalso; omega) | (rw [if_pos q3, hr3 q3])); (first | exact (if_neg q3).symm | (exfalso; omega))); have e3 := congr (congrArg (fun (a b : Int → Int) => wM am ty τ (up (up ρ 27 a) 28 b) ++ cs) e1) e2; exact e3)⟩)
                · exact absurd c139 (by decide)
              · exact absurd c123 (by decide)
          · refine lv_aload_n hx hb dX12_make_104 rfl (lv_at hl 5 rfl) ?_
            refine va_get (D := G) (ci := 11) (v := .ref (am 17)) (C := RX12) (T := TX12) (N := 52) hx hb hts in_X12 hown hK hP 0 (aM_0 _ _ _ _ _) rfl 28 (by decide) (hts _ q1293) (fun _ h9 => h9) rfl dX12_make_105 ?_
            refine lv_iload hx hb dX12_make_108 (lv_at hl 2 rfl) ?_
            refine li_iconst hx hb dX12_make_110 ?_
            refine li_iast (g := (ug (ρ 28) ((m1 / 100) % 10) (m1 % 10))) (W2 := wM am ty τ (up (up ρ 27 (ug (ρ 27) 0 y57_0)) 28 (ug (ug (ρ 28) ((m1 / 100) % 10) (m1 % 10)) ((m1 / 100) % 10) 5)) ++ cs) hx hb hK hP hD hS 17 0 (aM_17 _ _ _ _ _) rfl (by omega) (by omega) (by decide) rfl dX12_make_111 (fun H locs hP hD hS => ?_)
            refine lv_iload_n hx hb dX12_make_112 rfl (lv_at hl 4 rfl) ?_
            refine li_iconst hx hb dX12_make_113 ?_
            refine li_icmp_ne (tgt := 149) hx hb ⟨by omega, by omega⟩ ⟨by decide, by decide⟩ dX12_make_114 (by decide) (fun c114 => ?_) (fun c114 => ?_)
            · exact eMv hQ hx hb hr hlk hP hD hS (Nat.le_of_ble_eq_true rfl) (Nat.le_of_ble_eq_true rfl) dX12_make_149 (⟨rfl, by first | (exfalso; omega) | (have e1 : (ug (ρ 27) 0 y57_0) = mvw (m1 / 1000 % 10) (m1 % 10) (ρ 27) := (by funext i; by_cases i0 : i = 0; (subst i0; show y57_0 = mvw (m1 / 1000 % 10) (m1 % 10) (ρ 27) 0; rw [mvw_0]; split <;> omega); by_cases i1 : i = 1; (subst i1; show ρ 27 1 = mvw (m1 / 1000 % 10) (m1 % 10) (ρ 27) 1; rw [mvw_1]; split <;> omega); by_cases i2 : i = 2; (subst i2; show ρ 27 2 = mvw (m1 / 1000 % 10) (m1 % 10) (ρ 27) 2; rw [mvw_2]; split <;> omega); (rw [mvw_x i0 i1 i2, ug_n i0])); have e2 : (ug (ug (ρ 28) ((m1 / 100) % 10) (m1 % 10)) ((m1 / 100) % 10) 5) = (mvq (m1 / 10000) (m1 / 100 % 10) (m1 % 10) (ρ 28)) := (by unfold mvq; by_cases q1 : m1 / 10000 = 1 ∨ m1 / 10000 = 6; (first | exact (if_pos q1).symm | (exfalso; omega)); rw [if_neg q1]; by_cases q2 : m1 / 10000 = 2; (first | exact (if_pos q2).symm | (exfalso; omega)); rw [if_neg q2]; by_cases q3 : m1 / 10000 = 3; (first | (exfalso; omega) | (rw [if_pos q3, hr3 q3])); (first | exact (if_neg q3).symm | (exfalso; omega))); have e3 := congr (congrArg (fun (a b : Int → Int) => wM am ty τ (up (up ρ 27 a) 28 b) ++ cs) e1) e2; exact e3)⟩)
            · refine lv_aload_n hx hb dX12_make_117 rfl (lv_at hl 5 rfl) ?_
              refine va_get (D := G) (ci := 11) (v := .ref (am 17)) (C := RX12) (T := TX12) (N := 52) hx hb hts in_X12 hown hK hP 0 (aM_0 _ _ _ _ _) rfl 28 (by decide) (hts _ q1293) (fun _ h9 => h9) rfl dX12_make_118 ?_
              refine li_iconst hx hb dX12_make_121 ?_
              refine lv_iload_n hx hb dX12_make_122 rfl (lv_at hl 7 rfl) ?_
              refine li_if_eq (tgt := 130) hx hb ⟨by decide, by decide⟩ dX12_make_123 (by decide) (fun c123 => ?_) (fun c123 => ?_)
              · refine lv_iload hx hb dX12_make_130 (lv_at hl 1 rfl) ?_
                refine li_iast (g := (ug (ug (ρ 28) ((m1 / 100) % 10) (m1 % 10)) ((m1 / 100) % 10) 5)) (W2 := wM am ty τ (up (up ρ 27 (ug (ρ 27) 0 y57_0)) 28 (ug (ug (ug (ρ 28) ((m1 / 100) % 10) (m1 % 10)) ((m1 / 100) % 10) 5) 0 (m1 % 10))) ++ cs) hx hb hK hP hD hS 17 0 (aM_17 _ _ _ _ _) rfl (by decide) (by decide) (by decide) rfl dX12_make_132 (fun H locs hP hD hS => ?_)
                refine lv_aload_n hx hb dX12_make_133 rfl (lv_at hl 5 rfl) ?_
                refine va_get (D := G) (ci := 11) (v := .ref (am 17)) (C := RX12) (T := TX12) (N := 52) hx hb hts in_X12 hown hK hP 0 (aM_0 _ _ _ _ _) rfl 28 (by decide) (hts _ q1293) (fun _ h9 => h9) rfl dX12_make_134 ?_
                refine li_iconst hx hb dX12_make_137 ?_
                refine lv_iload_n hx hb dX12_make_138 rfl (lv_at hl 7 rfl) ?_
                refine li_if_eq (tgt := 146) hx hb ⟨by decide, by decide⟩ dX12_make_139 (by decide) (fun c139 => ?_) (fun c139 => ?_)
                · refine lv_iload hx hb dX12_make_146 (lv_at hl 1 rfl) ?_
                  refine li_iast (g := (ug (ug (ug (ρ 28) ((m1 / 100) % 10) (m1 % 10)) ((m1 / 100) % 10) 5) 0 (m1 % 10))) (W2 := wM am ty τ (up (up ρ 27 (ug (ρ 27) 0 y57_0)) 28 (ug (ug (ug (ug (ρ 28) ((m1 / 100) % 10) (m1 % 10)) ((m1 / 100) % 10) 5) 0 (m1 % 10)) 1 (m1 % 10))) ++ cs) hx hb hK hP hD hS 17 0 (aM_17 _ _ _ _ _) rfl (by decide) (by decide) (by decide) rfl dX12_make_148 (fun H locs hP hD hS => ?_)
                  exact eMv hQ hx hb hr hlk hP hD hS (Nat.le_of_ble_eq_true rfl) (Nat.le_of_ble_eq_true rfl) dX12_make_149 (⟨rfl, by first | (exfalso; omega) | (have e1 : (ug (ρ 27) 0 y57_0) = mvw (m1 / 1000 % 10) (m1 % 10) (ρ 27) := (by funext i; by_cases i0 : i = 0; (subst i0; show y57_0 = mvw (m1 / 1000 % 10) (m1 % 10) (ρ 27) 0; rw [mvw_0]; split <;> omega); by_cases i1 : i = 1; (subst i1; show ρ 27 1 = mvw (m1 / 1000 % 10) (m1 % 10) (ρ 27) 1; rw [mvw_1]; split <;> omega); by_cases i2 : i = 2; (subst i2; show ρ 27 2 = mvw (m1 / 1000 % 10) (m1 % 10) (ρ 27) 2; rw [mvw_2]; split <;> omega); (rw [mvw_x i0 i1 i2, ug_n i0])); have e2 : (ug (ug (ug (ug (ρ 28) ((m1 / 100) % 10) (m1 % 10)) ((m1 / 100) % 10) 5) 0 (m1 % 10)) 1 (m1 % 10)) = (mvq (m1 / 10000) (m1 / 100 % 10) (m1 % 10) (ρ 28)) := (by unfold mvq; by_cases q1 : m1 / 10000 = 1 ∨ m1 / 10000 = 6; (first | exact (if_pos q1).symm | (exfalso; omega)); rw [if_neg q1]; by_cases q2 : m1 / 10000 = 2; (first | exact (if_pos q2).symm | (exfalso; omega)); rw [if_neg q2]; by_cases q3 : m1 / 10000 = 3; (first | (exfalso; omega) | (rw [if_pos q3, hr3 q3])); (first | exact (if_neg q3).symm | (exfalso; omega))); have e3 := congr (congrArg (fun (a b : Int → Int) => wM am ty τ (up (up ρ 27 a) 28 b) ++ cs) e1) e2; exact e3)⟩)
                · exact absurd c139 (by decide)
              · exact absurd c123 (by decide)
        · refine lv_iload_n hx hb dX12_make_84 rfl (lv_at hl 4 rfl) ?_
          refine li_bipush hx hb dX12_make_85 (by decide) ?_
          refine li_icmp_ne (tgt := 99) hx hb ⟨by omega, by omega⟩ ⟨by decide, by decide⟩ dX12_make_87 (by decide) (fun c87 => ?_) (fun c87 => ?_)
          · refine lv_iload_n hx hb dX12_make_99 rfl (lv_at hl 4 rfl) ?_
            refine li_iconst hx hb dX12_make_100 ?_
            refine li_icmp_ne (tgt := 112) hx hb ⟨by omega, by omega⟩ ⟨by decide, by decide⟩ dX12_make_101 (by decide) (fun c101 => ?_) (fun c101 => ?_)
            · refine lv_iload_n hx hb dX12_make_112 rfl (lv_at hl 4 rfl) ?_
              refine li_iconst hx hb dX12_make_113 ?_
              refine li_icmp_ne (tgt := 149) hx hb ⟨by omega, by omega⟩ ⟨by decide, by decide⟩ dX12_make_114 (by decide) (fun c114 => ?_) (fun c114 => ?_)
              · exact eMv hQ hx hb hr hlk hP hD hS (Nat.le_of_ble_eq_true rfl) (Nat.le_of_ble_eq_true rfl) dX12_make_149 (⟨rfl, by first | (exfalso; omega) | (have e1 : (ug (ρ 27) 0 y57_0) = mvw (m1 / 1000 % 10) (m1 % 10) (ρ 27) := (by funext i; by_cases i0 : i = 0; (subst i0; show y57_0 = mvw (m1 / 1000 % 10) (m1 % 10) (ρ 27) 0; rw [mvw_0]; split <;> omega); by_cases i1 : i = 1; (subst i1; show ρ 27 1 = mvw (m1 / 1000 % 10) (m1 % 10) (ρ 27) 1; rw [mvw_1]; split <;> omega); by_cases i2 : i = 2; (subst i2; show ρ 27 2 = mvw (m1 / 1000 % 10) (m1 % 10) (ρ 27) 2; rw [mvw_2]; split <;> omega); (rw [mvw_x i0 i1 i2, ug_n i0])); have e2 : (ρ 28) = (mvq (m1 / 10000) (m1 / 100 % 10) (m1 % 10) (ρ 28)) := (by unfold mvq; by_cases q1 : m1 / 10000 = 1 ∨ m1 / 10000 = 6; (first | exact (if_pos q1).symm | (exfalso; omega)); rw [if_neg q1]; by_cases q2 : m1 / 10000 = 2; (first | exact (if_pos q2).symm | (exfalso; omega)); rw [if_neg q2]; by_cases q3 : m1 / 10000 = 3; (first | (exfalso; omega) | (rw [if_pos q3, hr3 q3])); (first | exact (if_neg q3).symm | (exfalso; omega))); have e3 := congr (congrArg (fun (a b : Int → Int) => wM am ty τ (up (up ρ 27 a) 28 b) ++ cs) e1) e2; exact e3)⟩)
              · refine lv_aload_n hx hb dX12_make_117 rfl (lv_at hl 5 rfl) ?_
                refine va_get (D := G) (ci := 11) (v := .ref (am 17)) (C := RX12) (T := TX12) (N := 52) hx hb hts in_X12 hown hK hP 0 (aM_0 _ _ _ _ _) rfl 28 (by decide) (hts _ q1293) (fun _ h9 => h9) rfl dX12_make_118 ?_
                refine li_iconst hx hb dX12_make_121 ?_
                refine lv_iload_n hx hb dX12_make_122 rfl (lv_at hl 7 rfl) ?_
                refine li_if_eq (tgt := 130) hx hb ⟨by decide, by decide⟩ dX12_make_123 (by decide) (fun c123 => ?_) (fun c123 => ?_)
                · refine lv_iload hx hb dX12_make_130 (lv_at hl 1 rfl) ?_
                  refine li_iast (g := (ρ 28)) (W2 := wM am ty τ (up (up ρ 27 (ug (ρ 27) 0 y57_0)) 28 (ug (ρ 28) 0 (m1 % 10))) ++ cs) hx hb hK hP hD hS 17 0 (aM_17 _ _ _ _ _) rfl (by decide) (by decide) (by decide) rfl dX12_make_132 (fun H locs hP hD hS => ?_)
                  refine lv_aload_n hx hb dX12_make_133 rfl (lv_at hl 5 rfl) ?_
                  refine va_get (D := G) (ci := 11) (v := .ref (am 17)) (C := RX12) (T := TX12) (N := 52) hx hb hts in_X12 hown hK hP 0 (aM_0 _ _ _ _ _) rfl 28 (by decide) (hts _ q1293) (fun _ h9 => h9) rfl dX12_make_134 ?_
                  refine li_iconst hx hb dX12_make_137 ?_
                  refine lv_iload_n hx hb dX12_make_138 rfl (lv_at hl 7 rfl) ?_
                  refine li_if_eq (tgt := 146) hx hb ⟨by decide, by decide⟩ dX12_make_139 (by decide) (fun c139 => ?_) (fun c139 => ?_)
                  · refine lv_iload hx hb dX12_make_146 (lv_at hl 1 rfl) ?_
                    refine li_iast (g := (ug (ρ 28) 0 (m1 % 10))) (W2 := wM am ty τ (up (up ρ 27 (ug (ρ 27) 0 y57_0)) 28 (ug (ug (ρ 28) 0 (m1 % 10)) 1 (m1 % 10))) ++ cs) hx hb hK hP hD hS 17 0 (aM_17 _ _ _ _ _) rfl (by decide) (by decide) (by decide) rfl dX12_make_148 (fun H locs hP hD hS => ?_)
                    exact eMv hQ hx hb hr hlk hP hD hS (Nat.le_of_ble_eq_true rfl) (Nat.le_of_ble_eq_true rfl) dX12_make_149 (⟨rfl, by first | (exfalso; omega) | (have e1 : (ug (ρ 27) 0 y57_0) = mvw (m1 / 1000 % 10) (m1 % 10) (ρ 27) := (by funext i; by_cases i0 : i = 0; (subst i0; show y57_0 = mvw (m1 / 1000 % 10) (m1 % 10) (ρ 27) 0; rw [mvw_0]; split <;> omega); by_cases i1 : i = 1; (subst i1; show ρ 27 1 = mvw (m1 / 1000 % 10) (m1 % 10) (ρ 27) 1; rw [mvw_1]; split <;> omega); by_cases i2 : i = 2; (subst i2; show ρ 27 2 = mvw (m1 / 1000 % 10) (m1 % 10) (ρ 27) 2; rw [mvw_2]; split <;> omega); (rw [mvw_x i0 i1 i2, ug_n i0])); have e2 : (ug (ug (ρ 28) 0 (m1 % 10)) 1 (m1 % 10)) = (mvq (m1 / 10000) (m1 / 100 % 10) (m1 % 10) (ρ 28)) := (by unfold mvq; by_cases q1 : m1 / 10000 = 1 ∨ m1 / 10000 = 6; (first | exact (if_pos q1).symm | (exfalso; omega)); rw [if_neg q1]; by_cases q2 : m1 / 10000 = 2; (first | exact (if_pos q2).symm | (exfalso; omega)); rw [if_neg q2]; by_cases q3 : m1 / 10000 = 3; (first | (exfalso; omega) | (rw [if_pos q3, hr3 q3])); (first | exact (if_neg q3).symm | (exfalso; omega))); have e3 := congr (congrArg (fun (a b : Int → Int) => wM am ty τ (up (up ρ 27 a) 28 b) ++ cs) e1) e2; exact e3)⟩)
                  · exact absurd c139 (by decide)
                · exact absurd c123 (by decide)
            · refine lv_aload_n hx hb dX12_make_104 rfl (lv_at hl 5 rfl) ?_
              refine va_get (D := G) (ci := 11) (v := .ref (am 17)) (C := RX12) (T := TX12) (N := 52) hx hb hts in_X12 hown hK hP 0 (aM_0 _ _ _ _ _) rfl 28 (by decide) (hts _ q1293) (fun _ h9 => h9) rfl dX12_make_105 ?_
              refine lv_iload hx hb dX12_make_108 (lv_at hl 2 rfl) ?_
              refine li_iconst hx hb dX12_make_110 ?_
              refine li_iast (g := (ρ 28)) (W2 := wM am ty τ (up (up ρ 27 (ug (ρ 27) 0 y57_0)) 28 (ug (ρ 28) ((m1 / 100) % 10) 5)) ++ cs) hx hb hK hP hD hS 17 0 (aM_17 _ _ _ _ _) rfl (by omega) (by omega) (by decide) rfl dX12_make_111 (fun H locs hP hD hS => ?_)
              refine lv_iload_n hx hb dX12_make_112 rfl (lv_at hl 4 rfl) ?_
              refine li_iconst hx hb dX12_make_113 ?_
              refine li_icmp_ne (tgt := 149) hx hb ⟨by omega, by omega⟩ ⟨by decide, by decide⟩ dX12_make_114 (by decide) (fun c114 => ?_) (fun c114 => ?_)
              · exact eMv hQ hx hb hr hlk hP hD hS (Nat.le_of_ble_eq_true rfl) (Nat.le_of_ble_eq_true rfl) dX12_make_149 (⟨rfl, by first | (exfalso; omega) | (have e1 : (ug (ρ 27) 0 y57_0) = mvw (m1 / 1000 % 10) (m1 % 10) (ρ 27) := (by funext i; by_cases i0 : i = 0; (subst i0; show y57_0 = mvw (m1 / 1000 % 10) (m1 % 10) (ρ 27) 0; rw [mvw_0]; split <;> omega); by_cases i1 : i = 1; (subst i1; show ρ 27 1 = mvw (m1 / 1000 % 10) (m1 % 10) (ρ 27) 1; rw [mvw_1]; split <;> omega); by_cases i2 : i = 2; (subst i2; show ρ 27 2 = mvw (m1 / 1000 % 10) (m1 % 10) (ρ 27) 2; rw [mvw_2]; split <;> omega); (rw [mvw_x i0 i1 i2, ug_n i0])); have e2 : (ug (ρ 28) ((m1 / 100) % 10) 5) = (mvq (m1 / 10000) (m1 / 100 % 10) (m1 % 10) (ρ 28)) := (by unfold mvq; by_cases q1 : m1 / 10000 = 1 ∨ m1 / 10000 = 6; (first | exact (if_pos q1).symm | (exfalso; omega)); rw [if_neg q1]; by_cases q2 : m1 / 10000 = 2; (first | exact (if_pos q2).symm | (exfalso; omega)); rw [if_neg q2]; by_cases q3 : m1 / 10000 = 3; (first | (exfalso; omega) | (rw [if_pos q3, hr3 q3])); (first | exact (if_neg q3).symm | (exfalso; omega))); have e3 := congr (congrArg (fun (a b : Int → Int) => wM am ty τ (up (up ρ 27 a) 28 b) ++ cs) e1) e2; exact e3)⟩)
              · refine lv_aload_n hx hb dX12_make_117 rfl (lv_at hl 5 rfl) ?_
                refine va_get (D := G) (ci := 11) (v := .ref (am 17)) (C := RX12) (T := TX12) (N := 52) hx hb hts in_X12 hown hK hP 0 (aM_0 _ _ _ _ _) rfl 28 (by decide) (hts _ q1293) (fun _ h9 => h9) rfl dX12_make_118 ?_
                refine li_iconst hx hb dX12_make_121 ?_
                refine lv_iload_n hx hb dX12_make_122 rfl (lv_at hl 7 rfl) ?_
                refine li_if_eq (tgt := 130) hx hb ⟨by decide, by decide⟩ dX12_make_123 (by decide) (fun c123 => ?_) (fun c123 => ?_)
                · refine lv_iload hx hb dX12_make_130 (lv_at hl 1 rfl) ?_
                  refine li_iast (g := (ug (ρ 28) ((m1 / 100) % 10) 5)) (W2 := wM am ty τ (up (up ρ 27 (ug (ρ 27) 0 y57_0)) 28 (ug (ug (ρ 28) ((m1 / 100) % 10) 5) 0 (m1 % 10))) ++ cs) hx hb hK hP hD hS 17 0 (aM_17 _ _ _ _ _) rfl (by decide) (by decide) (by decide) rfl dX12_make_132 (fun H locs hP hD hS => ?_)
                  refine lv_aload_n hx hb dX12_make_133 rfl (lv_at hl 5 rfl) ?_
                  refine va_get (D := G) (ci := 11) (v := .ref (am 17)) (C := RX12) (T := TX12) (N := 52) hx hb hts in_X12 hown hK hP 0 (aM_0 _ _ _ _ _) rfl 28 (by decide) (hts _ q1293) (fun _ h9 => h9) rfl dX12_make_134 ?_
                  refine li_iconst hx hb dX12_make_137 ?_
                  refine lv_iload_n hx hb dX12_make_138 rfl (lv_at hl 7 rfl) ?_
                  refine li_if_eq (tgt := 146) hx hb ⟨by decide, by decide⟩ dX12_make_139 (by decide) (fun c139 => ?_) (fun c139 => ?_)
                  · refine lv_iload hx hb dX12_make_146 (lv_at hl 1 rfl) ?_
                    refine li_iast (g := (ug (ug (ρ 28) ((m1 / 100) % 10) 5) 0 (m1 % 10))) (W2 := wM am ty τ (up (up ρ 27 (ug (ρ 27) 0 y57_0)) 28 (ug (ug (ug (ρ 28) ((m1 / 100) % 10) 5) 0 (m1 % 10)) 1 (m1 % 10))) ++ cs) hx hb hK hP hD hS 17 0 (aM_17 _ _ _ _ _) rfl (by decide) (by decide) (by decide) rfl dX12_make_148 (fun H locs hP hD hS => ?_)
                    exact eMv hQ hx hb hr hlk hP hD hS (Nat.le_of_ble_eq_true rfl) (Nat.le_of_ble_eq_true rfl) dX12_make_149 (⟨rfl, by first | (exfalso; omega) | (have e1 : (ug (ρ 27) 0 y57_0) = mvw (m1 / 1000 % 10) (m1 % 10) (ρ 27) := (by funext i; by_cases i0 : i = 0; (subst i0; show y57_0 = mvw (m1 / 1000 % 10) (m1 % 10) (ρ 27) 0; rw [mvw_0]; split <;> omega); by_cases i1 : i = 1; (subst i1; show ρ 27 1 = mvw (m1 / 1000 % 10) (m1 % 10) (ρ 27) 1; rw [mvw_1]; split <;> omega); by_cases i2 : i = 2; (subst i2; show ρ 27 2 = mvw (m1 / 1000 % 10) (m1 % 10) (ρ 27) 2; rw [mvw_2]; split <;> omega); (rw [mvw_x i0 i1 i2, ug_n i0])); have e2 : (ug (ug (ug (ρ 28) ((m1 / 100) % 10) 5) 0 (m1 % 10)) 1 (m1 % 10)) = (mvq (m1 / 10000) (m1 / 100 % 10) (m1 % 10) (ρ 28)) := (by unfold mvq; by_cases q1 : m1 / 10000 = 1 ∨ m1 / 10000 = 6; (first | exact (if_pos q1).symm | (exfalso; omega)); rw [if_neg q1]; by_cases q2 : m1 / 10000 = 2; (first | exact (if_pos q2).symm | (exfalso; omega)); rw [if_neg q2]; by_cases q3 : m1 / 10000 = 3; (first | (exfalso; omega) | (rw [if_pos q3, hr3 q3])); (first | exact (if_neg q3).symm | (exfalso; omega))); have e3 := congr (congrArg (fun (a b : Int → Int) => wM am ty τ (up (up ρ 27 a) 28 b) ++ cs) e1) e2; exact e3)⟩)
                  · exact absurd c139 (by decide)
                · exact absurd c123 (by decide)
          · refine lv_aload_n hx hb dX12_make_90 rfl (lv_at hl 5 rfl) ?_
            refine va_get (D := G) (ci := 11) (v := .ref (am 17)) (C := RX12) (T := TX12) (N := 52) hx hb hts in_X12 hown hK hP 0 (aM_0 _ _ _ _ _) rfl 28 (by decide) (hts _ q1293) (fun _ h9 => h9) rfl dX12_make_91 ?_
            refine lv_iload hx hb dX12_make_94 (lv_at hl 2 rfl) ?_
            refine lv_iload hx hb dX12_make_96 (lv_at hl 1 rfl) ?_
            refine li_iast (g := (ρ 28)) (W2 := wM am ty τ (up (up ρ 27 (ug (ρ 27) 0 y57_0)) 28 (ug (ρ 28) ((m1 / 100) % 10) (m1 % 10))) ++ cs) hx hb hK hP hD hS 17 0 (aM_17 _ _ _ _ _) rfl (by omega) (by omega) (by decide) rfl dX12_make_98 (fun H locs hP hD hS => ?_)
            refine lv_iload_n hx hb dX12_make_99 rfl (lv_at hl 4 rfl) ?_
            refine li_iconst hx hb dX12_make_100 ?_
            refine li_icmp_ne (tgt := 112) hx hb ⟨by omega, by omega⟩ ⟨by decide, by decide⟩ dX12_make_101 (by decide) (fun c101 => ?_) (fun c101 => ?_)
            · refine lv_iload_n hx hb dX12_make_112 rfl (lv_at hl 4 rfl) ?_
              refine li_iconst hx hb dX12_make_113 ?_
              refine li_icmp_ne (tgt := 149) hx hb ⟨by omega, by omega⟩ ⟨by decide, by decide⟩ dX12_make_114 (by decide) (fun c114 => ?_) (fun c114 => ?_)
              · exact eMv hQ hx hb hr hlk hP hD hS (Nat.le_of_ble_eq_true rfl) (Nat.le_of_ble_eq_true rfl) dX12_make_149 (⟨rfl, by first | (exfalso; omega) | (have e1 : (ug (ρ 27) 0 y57_0) = mvw (m1 / 1000 % 10) (m1 % 10) (ρ 27) := (by funext i; by_cases i0 : i = 0; (subst i0; show y57_0 = mvw (m1 / 1000 % 10) (m1 % 10) (ρ 27) 0; rw [mvw_0]; split <;> omega); by_cases i1 : i = 1; (subst i1; show ρ 27 1 = mvw (m1 / 1000 % 10) (m1 % 10) (ρ 27) 1; rw [mvw_1]; split <;> omega); by_cases i2 : i = 2; (subst i2; show ρ 27 2 = mvw (m1 / 1000 % 10) (m1 % 10) (ρ 27) 2; rw [mvw_2]; split <;> omega); (rw [mvw_x i0 i1 i2, ug_n i0])); have e2 : (ug (ρ 28) ((m1 / 100) % 10) (m1 % 10)) = (mvq (m1 / 10000) (m1 / 100 % 10) (m1 % 10) (ρ 28)) := (by unfold mvq; by_cases q1 : m1 / 10000 = 1 ∨ m1 / 10000 = 6; (first | exact (if_pos q1).symm | (exfalso; omega)); rw [if_neg q1]; by_cases q2 : m1 / 10000 = 2; (first | exact (if_pos q2).symm | (exfalso; omega)); rw [if_neg q2]; by_cases q3 : m1 / 10000 = 3; (first | (exfalso; omega) | (rw [if_pos q3, hr3 q3])); (first | exact (if_neg q3).symm | (exfalso; omega))); have e3 := congr (congrArg (fun (a b : Int → Int) => wM am ty τ (up (up ρ 27 a) 28 b) ++ cs) e1) e2; exact e3)⟩)
              · refine lv_aload_n hx hb dX12_make_117 rfl (lv_at hl 5 rfl) ?_
                refine va_get (D := G) (ci := 11) (v := .ref (am 17)) (C := RX12) (T := TX12) (N := 52) hx hb hts in_X12 hown hK hP 0 (aM_0 _ _ _ _ _) rfl 28 (by decide) (hts _ q1293) (fun _ h9 => h9) rfl dX12_make_118 ?_
                refine li_iconst hx hb dX12_make_121 ?_
                refine lv_iload_n hx hb dX12_make_122 rfl (lv_at hl 7 rfl) ?_
                refine li_if_eq (tgt := 130) hx hb ⟨by decide, by decide⟩ dX12_make_123 (by decide) (fun c123 => ?_) (fun c123 => ?_)
                · refine lv_iload hx hb dX12_make_130 (lv_at hl 1 rfl) ?_
                  refine li_iast (g := (ug (ρ 28) ((m1 / 100) % 10) (m1 % 10))) (W2 := wM am ty τ (up (up ρ 27 (ug (ρ 27) 0 y57_0)) 28 (ug (ug (ρ 28) ((m1 / 100) % 10) (m1 % 10)) 0 (m1 % 10))) ++ cs) hx hb hK hP hD hS 17 0 (aM_17 _ _ _ _ _) rfl (by decide) (by decide) (by decide) rfl dX12_make_132 (fun H locs hP hD hS => ?_)
                  refine lv_aload_n hx hb dX12_make_133 rfl (lv_at hl 5 rfl) ?_
                  refine va_get (D := G) (ci := 11) (v := .ref (am 17)) (C := RX12) (T := TX12) (N := 52) hx hb hts in_X12 hown hK hP 0 (aM_0 _ _ _ _ _) rfl 28 (by decide) (hts _ q1293) (fun _ h9 => h9) rfl dX12_make_134 ?_
                  refine li_iconst hx hb dX12_make_137 ?_
                  refine lv_iload_n hx hb dX12_make_138 rfl (lv_at hl 7 rfl) ?_
                  refine li_if_eq (tgt := 146) hx hb ⟨by decide, by decide⟩ dX12_make_139 (by decide) (fun c139 => ?_) (fun c139 => ?_)
                  · refine lv_iload hx hb dX12_make_146 (lv_at hl 1 rfl) ?_
                    refine li_iast (g := (ug (ug (ρ 28) ((m1 / 100) % 10) (m1 % 10)) 0 (m1 % 10))) (W2 := wM am ty τ (up (up ρ 27 (ug (ρ 27) 0 y57_0)) 28 (ug (ug (ug (ρ 28) ((m1 / 100) % 10) (m1 % 10)) 0 (m1 % 10)) 1 (m1 % 10))) ++ cs) hx hb hK hP hD hS 17 0 (aM_17 _ _ _ _ _) rfl (by decide) (by decide) (by decide) rfl dX12_make_148 (fun H locs hP hD hS => ?_)
                    exact eMv hQ hx hb hr hlk hP hD hS (Nat.le_of_ble_eq_true rfl) (Nat.le_of_ble_eq_true rfl) dX12_make_149 (⟨rfl, by first | (exfalso; omega) | (have e1 : (ug (ρ 27) 0 y57_0) = mvw (m1 / 1000 % 10) (m1 % 10) (ρ 27) := (by funext i; by_cases i0 : i = 0; (subst i0; show y57_0 = mvw (m1 / 1000 % 10) (m1 % 10) (ρ 27) 0; rw [mvw_0]; split <;> omega); by_cases i1 : i = 1; (subst i1; show ρ 27 1 = mvw (m1 / 1000 % 10) (m1 % 10) (ρ 27) 1; rw [mvw_1]; split <;> omega); by_cases i2 : i = 2; (subst i2; show ρ 27 2 = mvw (m1 / 1000 % 10) (m1 % 10) (ρ 27) 2; rw [mvw_2]; split <;> omega); (rw [mvw_x i0 i1 i2, ug_n i0])); have e2 : (ug (ug (ug (ρ 28) ((m1 / 100) % 10) (m1 % 10)) 0 (m1 % 10)) 1 (m1 % 10)) = (mvq (m1 / 10000) (m1 / 100 % 10) (m1 % 10) (ρ 28)) := (by unfold mvq; by_cases q1 : m1 / 10000 = 1 ∨ m1 / 10000 = 6; (first | exact (if_pos q1).symm | (exfalso; omega)); rw [if_neg q1]; by_cases q2 : m1 / 10000 = 2; (first | exact (if_pos q2).symm | (exfalso; omega)); rw [if_neg q2]; by_cases q3 : m1 / 10000 = 3; (first | (exfalso; omega) | (rw [if_pos q3, hr3 q3])); (first | exact (if_neg q3).symm | (exfalso; omega))); have e3 := congr (congrArg (fun (a b : Int → Int) => wM am ty τ (up (up ρ 27 a) 28 b) ++ cs) e1) e2; exact e3)⟩)
                  · exact absurd c139 (by decide)
                · exact absurd c123 (by decide)
            · refine lv_aload_n hx hb dX12_make_104 rfl (lv_at hl 5 rfl) ?_
              refine va_get (D := G) (ci := 11) (v := .ref (am 17)) (C := RX12) (T := TX12) (N := 52) hx hb hts in_X12 hown hK hP 0 (aM_0 _ _ _ _ _) rfl 28 (by decide) (hts _ q1293) (fun _ h9 => h9) rfl dX12_make_105 ?_
              refine lv_iload hx hb dX12_make_108 (lv_at hl 2 rfl) ?_
              refine li_iconst hx hb dX12_make_110 ?_
              refine li_iast (g := (ug (ρ 28) ((m1 / 100) % 10) (m1 % 10))) (W2 := wM am ty τ (up (up ρ 27 (ug (ρ 27) 0 y57_0)) 28 (ug (ug (ρ 28) ((m1 / 100) % 10) (m1 % 10)) ((m1 / 100) % 10) 5)) ++ cs) hx hb hK hP hD hS 17 0 (aM_17 _ _ _ _ _) rfl (by omega) (by omega) (by decide) rfl dX12_make_111 (fun H locs hP hD hS => ?_)
              refine lv_iload_n hx hb dX12_make_112 rfl (lv_at hl 4 rfl) ?_
              refine li_iconst hx hb dX12_make_113 ?_
              refine li_icmp_ne (tgt := 149) hx hb ⟨by omega, by omega⟩ ⟨by decide, by decide⟩ dX12_make_114 (by decide) (fun c114 => ?_) (fun c114 => ?_)
              · exact eMv hQ hx hb hr hlk hP hD hS (Nat.le_of_ble_eq_true rfl) (Nat.le_of_ble_eq_true rfl) dX12_make_149 (⟨rfl, by first | (exfalso; omega) | (have e1 : (ug (ρ 27) 0 y57_0) = mvw (m1 / 1000 % 10) (m1 % 10) (ρ 27) := (by funext i; by_cases i0 : i = 0; (subst i0; show y57_0 = mvw (m1 / 1000 % 10) (m1 % 10) (ρ 27) 0; rw [mvw_0]; split <;> omega); by_cases i1 : i = 1; (subst i1; show ρ 27 1 = mvw (m1 / 1000 % 10) (m1 % 10) (ρ 27) 1; rw [mvw_1]; split <;> omega); by_cases i2 : i = 2; (subst i2; show ρ 27 2 = mvw (m1 / 1000 % 10) (m1 % 10) (ρ 27) 2; rw [mvw_2]; split <;> omega); (rw [mvw_x i0 i1 i2, ug_n i0])); have e2 : (ug (ug (ρ 28) ((m1 / 100) % 10) (m1 % 10)) ((m1 / 100) % 10) 5) = (mvq (m1 / 10000) (m1 / 100 % 10) (m1 % 10) (ρ 28)) := (by unfold mvq; by_cases q1 : m1 / 10000 = 1 ∨ m1 / 10000 = 6; (first | exact (if_pos q1).symm | (exfalso; omega)); rw [if_neg q1]; by_cases q2 : m1 / 10000 = 2; (first | exact (if_pos q2).symm | (exfalso; omega)); rw [if_neg q2]; by_cases q3 : m1 / 10000 = 3; (first | (exfalso; omega) | (rw [if_pos q3, hr3 q3])); (first | exact (if_neg q3).symm | (exfalso; omega))); have e3 := congr (congrArg (fun (a b : Int → Int) => wM am ty τ (up (up ρ 27 a) 28 b) ++ cs) e1) e2; exact e3)⟩)
              · refine lv_aload_n hx hb dX12_make_117 rfl (lv_at hl 5 rfl) ?_
                refine va_get (D := G) (ci := 11) (v := .ref (am 17)) (C := RX12) (T := TX12) (N := 52) hx hb hts in_X12 hown hK hP 0 (aM_0 _ _ _ _ _) rfl 28 (by decide) (hts _ q1293) (fun _ h9 => h9) rfl dX12_make_118 ?_
                refine li_iconst hx hb dX12_make_121 ?_
                refine lv_iload_n hx hb dX12_make_122 rfl (lv_at hl 7 rfl) ?_
                refine li_if_eq (tgt := 130) hx hb ⟨by decide, by decide⟩ dX12_make_123 (by decide) (fun c123 => ?_) (fun c123 => ?_)
                · refine lv_iload hx hb dX12_make_130 (lv_at hl 1 rfl) ?_
                  refine li_iast (g := (ug (ug (ρ 28) ((m1 / 100) % 10) (m1 % 10)) ((m1 / 100) % 10) 5)) (W2 := wM am ty τ (up (up ρ 27 (ug (ρ 27) 0 y57_0)) 28 (ug (ug (ug (ρ 28) ((m1 / 100) % 10) (m1 % 10)) ((m1 / 100) % 10) 5) 0 (m1 % 10))) ++ cs) hx hb hK hP hD hS 17 0 (aM_17 _ _ _ _ _) rfl (by decide) (by decide) (by decide) rfl dX12_make_132 (fun H locs hP hD hS => ?_)
                  refine lv_aload_n hx hb dX12_make_133 rfl (lv_at hl 5 rfl) ?_
                  refine va_get (D := G) (ci := 11) (v := .ref (am 17)) (C := RX12) (T := TX12) (N := 52) hx hb hts in_X12 hown hK hP 0 (aM_0 _ _ _ _ _) rfl 28 (by decide) (hts _ q1293) (fun _ h9 => h9) rfl dX12_make_134 ?_
                  refine li_iconst hx hb dX12_make_137 ?_
                  refine lv_iload_n hx hb dX12_make_138 rfl (lv_at hl 7 rfl) ?_
                  refine li_if_eq (tgt := 146) hx hb ⟨by decide, by decide⟩ dX12_make_139 (by decide) (fun c139 => ?_) (fun c139 => ?_)
                  · refine lv_iload hx hb dX12_make_146 (lv_at hl 1 rfl) ?_
                    refine li_iast (g := (ug (ug (ug (ρ 28) ((m1 / 100) % 10) (m1 % 10)) ((m1 / 100) % 10) 5) 0 (m1 % 10))) (W2 := wM am ty τ (up (up ρ 27 (ug (ρ 27) 0 y57_0)) 28 (ug (ug (ug (ug (ρ 28) ((m1 / 100) % 10) (m1 % 10)) ((m1 / 100) % 10) 5) 0 (m1 % 10)) 1 (m1 % 10))) ++ cs) hx hb hK hP hD hS 17 0 (aM_17 _ _ _ _ _) rfl (by decide) (by decide) (by decide) rfl dX12_make_148 (fun H locs hP hD hS => ?_)
                    exact eMv hQ hx hb hr hlk hP hD hS (Nat.le_of_ble_eq_true rfl) (Nat.le_of_ble_eq_true rfl) dX12_make_149 (⟨rfl, by first | (exfalso; omega) | (have e1 : (ug (ρ 27) 0 y57_0) = mvw (m1 / 1000 % 10) (m1 % 10) (ρ 27) := (by funext i; by_cases i0 : i = 0; (subst i0; show y57_0 = mvw (m1 / 1000 % 10) (m1 % 10) (ρ 27) 0; rw [mvw_0]; split <;> omega); by_cases i1 : i = 1; (subst i1; show ρ 27 1 = mvw (m1 / 1000 % 10) (m1 % 10) (ρ 27) 1; rw [mvw_1]; split <;> omega); by_cases i2 : i = 2; (subst i2; show ρ 27 2 = mvw (m1 / 1000 % 10) (m1 % 10) (ρ 27) 2; rw [mvw_2]; split <;> omega); (rw [mvw_x i0 i1 i2, ug_n i0])); have e2 : (ug (ug (ug (ug (ρ 28) ((m1 / 100) % 10) (m1 % 10)) ((m1 / 100) % 10) 5) 0 (m1 % 10)) 1 (m1 % 10)) = (mvq (m1 / 10000) (m1 / 100 % 10) (m1 % 10) (ρ 28)) := (by unfold mvq; by_cases q1 : m1 / 10000 = 1 ∨ m1 / 10000 = 6; (first | exact (if_pos q1).symm | (exfalso; omega)); rw [if_neg q1]; by_cases q2 : m1 / 10000 = 2; (first | exact (if_pos q2).symm | (exfalso; omega)); rw [if_neg q2]; by_cases q3 : m1 / 10000 = 3; (first | (exfalso; omega) | (rw [if_pos q3, hr3 q3])); (first | exact (if_neg q3).symm | (exfalso; omega))); have e3 := congr (congrArg (fun (a b : Int → Int) => wM am ty τ (up (up ρ 27 a) 28 b) ++ cs) e1) e2; exact e3)⟩)
                  · exact absurd c139 (by decide)
                · exact absurd c123 (by decide)
      · refine lv_aload_n hx hb dX12_make_43 rfl (lv_at hl 5 rfl) ?_
        refine va_get (D := G) (ci := 11) (v := .ref (am 16)) (C := RX12) (T := TX12) (N := 52) hx hb hts in_X12 hown hK hP 0 (aM_0 _ _ _ _ _) rfl 27 (by decide) (hts _ q1292) (fun _ h9 => h9) rfl dX12_make_44 ?_
        refine lv_iload hx hb dX12_make_47 (lv_at hl 0 rfl) ?_
        refine lv_iload hx hb dX12_make_49 (lv_at hl 3 rfl) ?_
        refine lv_iload hx hb dX12_make_51 (lv_at hl 0 rfl) ?_
        refine lv_ishr hx hb dX12_make_53 ?_
        refine li_topx (z := (m1 / 1000) % 10 / 2) (ii_shr1 (by omega) (by omega)) ?_
        refine li_iconst hx hb dX12_make_54 ?_
        refine lv_iand hx hb dX12_make_55 ?_
        refine li_topx (z := ((m1 / 1000) % 10 / 2) % 2) (ii_and1 (by omega) (by omega)) ?_
        refine li_iconst hx hb dX12_make_56 ?_
        have J57_1 : ∀ (y57_1_0 : Int) (_ : ((¬ (((m1 / 1000) % 10 / 2) % 2) = 1) ∧ y57_1_0 = (ug (ρ 27) 0 y57_0) 1) ∨ (((((m1 / 1000) % 10 / 2) % 2) = 1) ∧ y57_1_0 = m1 % 10)) (H : Heap) (locs : List Loc) (_ : va_P G gcl (wM am ty τ (up ρ 27 (ug (ρ 27) 0 y57_0)) ++ cs) H) (_ : va_D A (wM am ty τ (up ρ 27 (ug (ρ 27) 0 y57_0)) ++ cs)) (_ : va_S A s.heap H locs) (ls : Array Slot), lv_has ls 8 [(7, .int (ii 1)), (6, .int (ii (m1 % 10))), (5, .int (ii ((m1 / 100) % 10))), (4, .int (ii ((m1 / 1000) % 10))), (3, .int (ii (m1 / 10000))), (0, .ref (am 0)), (1, .int (ii m1)), (2, .int (ii 0))] → W p l e (rm4 0 0 0 0) s m args below meth c H locs 0 0 Q (F0 m 72 ls [.int (ii y57_1_0), .int (ii 1), .ref (am 16)]) := by
          intro y57_1_0 hj57_1 H locs hP hD hS ls hl
          refine li_iast (g := (ug (ρ 27) 0 y57_0)) (W2 := wM am ty τ (up ρ 27 (ug (ug (ρ 27) 0 y57_0) 1 y57_1_0)) ++ cs) hx hb hK hP hD hS 16 0 (aM_16 _ _ _ _ _) rfl (by decide) (by decide) (by decide) rfl dX12_make_72 (fun H locs hP hD hS => ?_)
          refine li_iinc (a := 1) (lv' := [(7, .int (ii 2)), (6, .int (ii (m1 % 10))), (5, .int (ii ((m1 / 100) % 10))), (4, .int (ii ((m1 / 1000) % 10))), (3, .int (ii (m1 / 10000))), (0, .ref (am 0)), (1, .int (ii m1)), (2, .int (ii 0))]) hx hb dX12_make_73 hl (k := 0) rfl (by decide) rfl (fun ls hl => ?_)
          refine lv_goto (tgt := 34) hx hb dX12_make_76 (by decide) ?_
          refine lv_iload hx hb dX12_make_34 (lv_at hl 0 rfl) ?_
          refine lv_aload_n hx hb dX12_make_36 rfl (lv_at hl 5 rfl) ?_
          refine va_get (D := G) (ci := 11) (v := .int (ii (τ 5 0))) (C := RX12) (T := TX12) (N := 52) hx hb hts in_X12 hown hK hP 0 (aM_0 _ _ _ _ _) rfl 5 (by decide) (hts _ q1270) (fun _ h9 => h9) rfl dX12_make_37 ?_
          refine li_icmp_ge (tgt := 79) hx hb ⟨by decide, by decide⟩ ⟨by omega, by omega⟩ dX12_make_40 (by decide) (fun c40 => ?_) (fun c40 => ?_)
          · refine lv_iload_n hx hb dX12_make_79 rfl (lv_at hl 4 rfl) ?_
            refine li_iconst hx hb dX12_make_80 ?_
            refine li_icmp_eq (tgt := 90) hx hb ⟨by omega, by omega⟩ ⟨by decide, by decide⟩ dX12_make_81 (by decide) (fun c81 => ?_) (fun c81 => ?_)
            · refine lv_aload_n hx hb dX12_make_90 rfl (lv_at hl 5 rfl) ?_
              refine va_get (D := G) (ci := 11) (v := .ref (am 17)) (C := RX12) (T := TX12) (N := 52) hx hb hts in_X12 hown hK hP 0 (aM_0 _ _ _ _ _) rfl 28 (by decide) (hts _ q1293) (fun _ h9 => h9) rfl dX12_make_91 ?_
              refine lv_iload hx hb dX12_make_94 (lv_at hl 2 rfl) ?_
              refine lv_iload hx hb dX12_make_96 (lv_at hl 1 rfl) ?_
              refine li_iast (g := (ρ 28)) (W2 := wM am ty τ (up (up ρ 27 (ug (ug (ρ 27) 0 y57_0) 1 y57_1_0)) 28 (ug (ρ 28) ((m1 / 100) % 10) (m1 % 10))) ++ cs) hx hb hK hP hD hS 17 0 (aM_17 _ _ _ _ _) rfl (by omega) (by omega) (by decide) rfl dX12_make_98 (fun H locs hP hD hS => ?_)
              refine lv_iload_n hx hb dX12_make_99 rfl (lv_at hl 4 rfl) ?_
              refine li_iconst hx hb dX12_make_100 ?_
              refine li_icmp_ne (tgt := 112) hx hb ⟨by omega, by omega⟩ ⟨by decide, by decide⟩ dX12_make_101 (by decide) (fun c101 => ?_) (fun c101 => ?_)
              · refine lv_iload_n hx hb dX12_make_112 rfl (lv_at hl 4 rfl) ?_
                refine li_iconst hx hb dX12_make_113 ?_
                refine li_icmp_ne (tgt := 149) hx hb ⟨by omega, by omega⟩ ⟨by decide, by decide⟩ dX12_make_114 (by decide) (fun c114 => ?_) (fun c114 => ?_)
                · exact eMv hQ hx hb hr hlk hP hD hS (Nat.le_of_ble_eq_true rfl) (Nat.le_of_ble_eq_true rfl) dX12_make_149 (⟨rfl, by first | (exfalso; omega) | (have e1 : (ug (ug (ρ 27) 0 y57_0) 1 y57_1_0) = mvw (m1 / 1000 % 10) (m1 % 10) (ρ 27) := (by have u1 : (ug (ρ 27) 0 y57_0) 1 = ρ 27 1 := rfl; funext i; by_cases i0 : i = 0; (subst i0; show y57_0 = mvw (m1 / 1000 % 10) (m1 % 10) (ρ 27) 0; rw [mvw_0]; split <;> omega); by_cases i1 : i = 1; (subst i1; show y57_1_0 = mvw (m1 / 1000 % 10) (m1 % 10) (ρ 27) 1; rw [mvw_1]; split <;> omega); by_cases i2 : i = 2; (subst i2; show ρ 27 2 = mvw (m1 / 1000 % 10) (m1 % 10) (ρ 27) 2; rw [mvw_2]; split <;> omega); (rw [mvw_x i0 i1 i2, ug_n i1, ug_n i0])); have e2 : (ug (ρ 28) ((m1 / 100) % 10) (m1 % 10)) = (mvq (m1 / 10000) (m1 / 100 % 10) (m1 % 10) (ρ 28)) := (by unfold mvq; by_cases q1 : m1 / 10000 = 1 ∨ m1 / 10000 = 6; (first | exact (if_pos q1).symm | (exfalso; omega)); rw [if_neg q1]; by_cases q2 : m1 / 10000 = 2; (first | exact (if_pos q2).symm | (exfalso; omega)); rw [if_neg q2]; by_cases q3 : m1 / 10000 = 3; (first | (exfalso; omega) | (rw [if_pos q3, hr3 q3])); (first | exact (if_neg q3).symm | (exfalso; omega))); have e3 := congr (congrArg (fun (a b : Int → Int) => wM am ty τ (up (up ρ 27 a) 28 b) ++ cs) e1) e2; exact e3)⟩)
                · refine lv_aload_n hx hb dX12_make_117 rfl (lv_at hl 5 rfl) ?_
                  refine va_get (D := G) (ci := 11) (v := .ref (am 17)) (C := RX12) (T := TX12) (N := 52) hx hb hts in_X12 hown hK hP 0 (aM_0 _ _ _ _ _) rfl 28 (by decide) (hts _ q1293) (fun _ h9 => h9) rfl dX12_make_118 ?_
                  refine li_iconst hx hb dX12_make_121 ?_
                  refine lv_iload_n hx hb dX12_make_122 rfl (lv_at hl 7 rfl) ?_
                  refine li_if_eq (tgt := 130) hx hb ⟨by decide, by decide⟩ dX12_make_123 (by decide) (fun c123 => ?_) (fun c123 => ?_)
                  · refine lv_iload hx hb dX12_make_130 (lv_at hl 1 rfl) ?_
                    refine li_iast (g := (ug (ρ 28) ((m1 / 100) % 10) (m1 % 10))) (W2 := wM am ty τ (up (up ρ 27 (ug (ug (ρ 27) 0 y57_0) 1 y57_1_0)) 28 (ug (ug (ρ 28) ((m1 / 100) % 10) (m1 % 10)) 0 (m1 % 10))) ++ cs) hx hb hK hP hD hS 17 0 (aM_17 _ _ _ _ _) rfl (by decide) (by decide) (by decide) rfl dX12_make_132 (fun H locs hP hD hS => ?_)
                    refine lv_aload_n hx hb dX12_make_133 rfl (lv_at hl 5 rfl) ?_
                    refine va_get (D := G) (ci := 11) (v := .ref (am 17)) (C := RX12) (T := TX12) (N := 52) hx hb hts in_X12 hown hK hP 0 (aM_0 _ _ _ _ _) rfl 28 (by decide) (hts _ q1293) (fun _ h9 => h9) rfl dX12_make_134 ?_
                    refine li_iconst hx hb dX12_make_137 ?_
                    refine lv_iload_n hx hb dX12_make_138 rfl (lv_at hl 7 rfl) ?_
                    refine li_if_eq (tgt := 146) hx hb ⟨by decide, by decide⟩ dX12_make_139 (by decide) (fun c139 => ?_) (fun c139 => ?_)
                    · refine lv_iload hx hb dX12_make_146 (lv_at hl 1 rfl) ?_
                      refine li_iast (g := (ug (ug (ρ 28) ((m1 / 100) % 10) (m1 % 10)) 0 (m1 % 10))) (W2 := wM am ty τ (up (up ρ 27 (ug (ug (ρ 27) 0 y57_0) 1 y57_1_0)) 28 (ug (ug (ug (ρ 28) ((m1 / 100) % 10) (m1 % 10)) 0 (m1 % 10)) 1 (m1 % 10))) ++ cs) hx hb hK hP hD hS 17 0 (aM_17 _ _ _ _ _) rfl (by decide) (by decide) (by decide) rfl dX12_make_148 (fun H locs hP hD hS => ?_)
                      exact eMv hQ hx hb hr hlk hP hD hS (Nat.le_of_ble_eq_true rfl) (Nat.le_of_ble_eq_true rfl) dX12_make_149 (⟨rfl, by first | (exfalso; omega) | (have e1 : (ug (ug (ρ 27) 0 y57_0) 1 y57_1_0) = mvw (m1 / 1000 % 10) (m1 % 10) (ρ 27) := (by have u1 : (ug (ρ 27) 0 y57_0) 1 = ρ 27 1 := rfl; funext i; by_cases i0 : i = 0; (subst i0; show y57_0 = mvw (m1 / 1000 % 10) (m1 % 10) (ρ 27) 0; rw [mvw_0]; split <;> omega); by_cases i1 : i = 1; (subst i1; show y57_1_0 = mvw (m1 / 1000 % 10) (m1 % 10) (ρ 27) 1; rw [mvw_1]; split <;> omega); by_cases i2 : i = 2; (subst i2; show ρ 27 2 = mvw (m1 / 1000 % 10) (m1 % 10) (ρ 27) 2; rw [mvw_2]; split <;> omega); (rw [mvw_x i0 i1 i2, ug_n i1, ug_n i0])); have e2 : (ug (ug (ug (ρ 28) ((m1 / 100) % 10) (m1 % 10)) 0 (m1 % 10)) 1 (m1 % 10)) = (mvq (m1 / 10000) (m1 / 100 % 10) (m1 % 10) (ρ 28)) := (by unfold mvq; by_cases q1 : m1 / 10000 = 1 ∨ m1 / 10000 = 6; (first | exact (if_pos q1).symm | (exfalso; omega)); rw [if_neg q1]; by_cases q2 : m1 / 10000 = 2; (first | exact (if_pos q2).symm | (exfalso; omega)); rw [if_neg q2]; by_cases q3 : m1 / 10000 = 3; (first | (exfalso; omega) | (rw [if_pos q3, hr3 q3])); (first | exact (if_neg q3).symm | (exfalso; omega))); have e3 := congr (congrArg (fun (a b : Int → Int) => wM am ty τ (up (up ρ 27 a) 28 b) ++ cs) e1) e2; exact e3)⟩)
                    · exact absurd c139 (by decide)
                  · exact absurd c123 (by decide)
              · refine lv_aload_n hx hb dX12_make_104 rfl (lv_at hl 5 rfl) ?_
                refine va_get (D := G) (ci := 11) (v := .ref (am 17)) (C := RX12) (T := TX12) (N := 52) hx hb hts in_X12 hown hK hP 0 (aM_0 _ _ _ _ _) rfl 28 (by decide) (hts _ q1293) (fun _ h9 => h9) rfl dX12_make_105 ?_
                refine lv_iload hx hb dX12_make_108 (lv_at hl 2 rfl) ?_
                refine li_iconst hx hb dX12_make_110 ?_
                refine li_iast (g := (ug (ρ 28) ((m1 / 100) % 10) (m1 % 10))) (W2 := wM am ty τ (up (up ρ 27 (ug (ug (ρ 27) 0 y57_0) 1 y57_1_0)) 28 (ug (ug (ρ 28) ((m1 / 100) % 10) (m1 % 10)) ((m1 / 100) % 10) 5)) ++ cs) hx hb hK hP hD hS 17 0 (aM_17 _ _ _ _ _) rfl (by omega) (by omega) (by decide) rfl dX12_make_111 (fun H locs hP hD hS => ?_)
                refine lv_iload_n hx hb dX12_make_112 rfl (lv_at hl 4 rfl) ?_
                refine li_iconst hx hb dX12_make_113 ?_
                refine li_icmp_ne (tgt := 149) hx hb ⟨by omega, by omega⟩ ⟨by decide, by decide⟩ dX12_make_114 (by decide) (fun c114 => ?_) (fun c114 => ?_)
                · exact eMv hQ hx hb hr hlk hP hD hS (Nat.le_of_ble_eq_true rfl) (Nat.le_of_ble_eq_true rfl) dX12_make_149 (⟨rfl, by first | (exfalso; omega) | (have e1 : (ug (ug (ρ 27) 0 y57_0) 1 y57_1_0) = mvw (m1 / 1000 % 10) (m1 % 10) (ρ 27) := (by have u1 : (ug (ρ 27) 0 y57_0) 1 = ρ 27 1 := rfl; funext i; by_cases i0 : i = 0; (subst i0; show y57_0 = mvw (m1 / 1000 % 10) (m1 % 10) (ρ 27) 0; rw [mvw_0]; split <;> omega); by_cases i1 : i = 1; (subst i1; show y57_1_0 = mvw (m1 / 1000 % 10) (m1 % 10) (ρ 27) 1; rw [mvw_1]; split <;> omega); by_cases i2 : i = 2; (subst i2; show ρ 27 2 = mvw (m1 / 1000 % 10) (m1 % 10) (ρ 27) 2; rw [mvw_2]; split <;> omega); (rw [mvw_x i0 i1 i2, ug_n i1, ug_n i0])); have e2 : (ug (ug (ρ 28) ((m1 / 100) % 10) (m1 % 10)) ((m1 / 100) % 10) 5) = (mvq (m1 / 10000) (m1 / 100 % 10) (m1 % 10) (ρ 28)) := (by unfold mvq; by_cases q1 : m1 / 10000 = 1 ∨ m1 / 10000 = 6; (first | exact (if_pos q1).symm | (exfalso; omega)); rw [if_neg q1]; by_cases q2 : m1 / 10000 = 2; (first | exact (if_pos q2).symm | (exfalso; omega)); rw [if_neg q2]; by_cases q3 : m1 / 10000 = 3; (first | (exfalso; omega) | (rw [if_pos q3, hr3 q3])); (first | exact (if_neg q3).symm | (exfalso; omega))); have e3 := congr (congrArg (fun (a b : Int → Int) => wM am ty τ (up (up ρ 27 a) 28 b) ++ cs) e1) e2; exact e3)⟩)
                · refine lv_aload_n hx hb dX12_make_117 rfl (lv_at hl 5 rfl) ?_
                  refine va_get (D := G) (ci := 11) (v := .ref (am 17)) (C := RX12) (T := TX12) (N := 52) hx hb hts in_X12 hown hK hP 0 (aM_0 _ _ _ _ _) rfl 28 (by decide) (hts _ q1293) (fun _ h9 => h9) rfl dX12_make_118 ?_
                  refine li_iconst hx hb dX12_make_121 ?_
                  refine lv_iload_n hx hb dX12_make_122 rfl (lv_at hl 7 rfl) ?_
                  refine li_if_eq (tgt := 130) hx hb ⟨by decide, by decide⟩ dX12_make_123 (by decide) (fun c123 => ?_) (fun c123 => ?_)
                  · refine lv_iload hx hb dX12_make_130 (lv_at hl 1 rfl) ?_
                    refine li_iast (g := (ug (ug (ρ 28) ((m1 / 100) % 10) (m1 % 10)) ((m1 / 100) % 10) 5)) (W2 := wM am ty τ (up (up ρ 27 (ug (ug (ρ 27) 0 y57_0) 1 y57_1_0)) 28 (ug (ug (ug (ρ 28) ((m1 / 100) % 10) (m1 % 10)) ((m1 / 100) % 10) 5) 0 (m1 % 10))) ++ cs) hx hb hK hP hD hS 17 0 (aM_17 _ _ _ _ _) rfl (by decide) (by decide) (by decide) rfl dX12_make_132 (fun H locs hP hD hS => ?_)
                    refine lv_aload_n hx hb dX12_make_133 rfl (lv_at hl 5 rfl) ?_
                    refine va_get (D := G) (ci := 11) (v := .ref (am 17)) (C := RX12) (T := TX12) (N := 52) hx hb hts in_X12 hown hK hP 0 (aM_0 _ _ _ _ _) rfl 28 (by decide) (hts _ q1293) (fun _ h9 => h9) rfl dX12_make_134 ?_
                    refine li_iconst hx hb dX12_make_137 ?_
                    refine lv_iload_n hx hb dX12_make_138 rfl (lv_at hl 7 rfl) ?_
                    refine li_if_eq (tgt := 146) hx hb ⟨by decide, by decide⟩ dX12_make_139 (by decide) (fun c139 => ?_) (fun c139 => ?_)
                    · refine lv_iload hx hb dX12_make_146 (lv_at hl 1 rfl) ?_
                      refine li_iast (g := (ug (ug (ug (ρ 28) ((m1 / 100) % 10) (m1 % 10)) ((m1 / 100) % 10) 5) 0 (m1 % 10))) (W2 := wM am ty τ (up (up ρ 27 (ug (ug (ρ 27) 0 y57_0) 1 y57_1_0)) 28 (ug (ug (ug (ug (ρ 28) ((m1 / 100) % 10) (m1 % 10)) ((m1 / 100) % 10) 5) 0 (m1 % 10)) 1 (m1 % 10))) ++ cs) hx hb hK hP hD hS 17 0 (aM_17 _ _ _ _ _) rfl (by decide) (by decide) (by decide) rfl dX12_make_148 (fun H locs hP hD hS => ?_)
                      exact eMv hQ hx hb hr hlk hP hD hS (Nat.le_of_ble_eq_true rfl) (Nat.le_of_ble_eq_true rfl) dX12_make_149 (⟨rfl, by first | (exfalso; omega) | (have e1 : (ug (ug (ρ 27) 0 y57_0) 1 y57_1_0) = mvw (m1 / 1000 % 10) (m1 % 10) (ρ 27) := (by have u1 : (ug (ρ 27) 0 y57_0) 1 = ρ 27 1 := rfl; funext i; by_cases i0 : i = 0; (subst i0; show y57_0 = mvw (m1 / 1000 % 10) (m1 % 10) (ρ 27) 0; rw [mvw_0]; split <;> omega); by_cases i1 : i = 1; (subst i1; show y57_1_0 = mvw (m1 / 1000 % 10) (m1 % 10) (ρ 27) 1; rw [mvw_1]; split <;> omega); by_cases i2 : i = 2; (subst i2; show ρ 27 2 = mvw (m1 / 1000 % 10) (m1 % 10) (ρ 27) 2; rw [mvw_2]; split <;> omega); (rw [mvw_x i0 i1 i2, ug_n i1, ug_n i0])); have e2 : (ug (ug (ug (ug (ρ 28) ((m1 / 100) % 10) (m1 % 10)) ((m1 / 100) % 10) 5) 0 (m1 % 10)) 1 (m1 % 10)) = (mvq (m1 / 10000) (m1 / 100 % 10) (m1 % 10) (ρ 28)) := (by unfold mvq; by_cases q1 : m1 / 10000 = 1 ∨ m1 / 10000 = 6; (first | exact (if_pos q1).symm | (exfalso; omega)); rw [if_neg q1]; by_cases q2 : m1 / 10000 = 2; (first | exact (if_pos q2).symm | (exfalso; omega)); rw [if_neg q2]; by_cases q3 : m1 / 10000 = 3; (first | (exfalso; omega) | (rw [if_pos q3, hr3 q3])); (first | exact (if_neg q3).symm | (exfalso; omega))); have e3 := congr (congrArg (fun (a b : Int → Int) => wM am ty τ (up (up ρ 27 a) 28 b) ++ cs) e1) e2; exact e3)⟩)
                    · exact absurd c139 (by decide)
                  · exact absurd c123 (by decide)
            · refine lv_iload_n hx hb dX12_make_84 rfl (lv_at hl 4 rfl) ?_
              refine li_bipush hx hb dX12_make_85 (by decide) ?_
              refine li_icmp_ne (tgt := 99) hx hb ⟨by omega, by omega⟩ ⟨by decide, by decide⟩ dX12_make_87 (by decide) (fun c87 => ?_) (fun c87 => ?_)
              · refine lv_iload_n hx hb dX12_make_99 rfl (lv_at hl 4 rfl) ?_
                refine li_iconst hx hb dX12_make_100 ?_
                refine li_icmp_ne (tgt := 112) hx hb ⟨by omega, by omega⟩ ⟨by decide, by decide⟩ dX12_make_101 (by decide) (fun c101 => ?_) (fun c101 => ?_)
                · refine lv_iload_n hx hb dX12_make_112 rfl (lv_at hl 4 rfl) ?_
                  refine li_iconst hx hb dX12_make_113 ?_
                  refine li_icmp_ne (tgt := 149) hx hb ⟨by omega, by omega⟩ ⟨by decide, by decide⟩ dX12_make_114 (by decide) (fun c114 => ?_) (fun c114 => ?_)
                  · exact eMv hQ hx hb hr hlk hP hD hS (Nat.le_of_ble_eq_true rfl) (Nat.le_of_ble_eq_true rfl) dX12_make_149 (⟨rfl, by first | (exfalso; omega) | (have e1 : (ug (ug (ρ 27) 0 y57_0) 1 y57_1_0) = mvw (m1 / 1000 % 10) (m1 % 10) (ρ 27) := (by have u1 : (ug (ρ 27) 0 y57_0) 1 = ρ 27 1 := rfl; funext i; by_cases i0 : i = 0; (subst i0; show y57_0 = mvw (m1 / 1000 % 10) (m1 % 10) (ρ 27) 0; rw [mvw_0]; split <;> omega); by_cases i1 : i = 1; (subst i1; show y57_1_0 = mvw (m1 / 1000 % 10) (m1 % 10) (ρ 27) 1; rw [mvw_1]; split <;> omega); by_cases i2 : i = 2; (subst i2; show ρ 27 2 = mvw (m1 / 1000 % 10) (m1 % 10) (ρ 27) 2; rw [mvw_2]; split <;> omega); (rw [mvw_x i0 i1 i2, ug_n i1, ug_n i0])); have e2 : (ρ 28) = (mvq (m1 / 10000) (m1 / 100 % 10) (m1 % 10) (ρ 28)) := (by unfold mvq; by_cases q1 : m1 / 10000 = 1 ∨ m1 / 10000 = 6; (first | exact (if_pos q1).symm | (exfalso; omega)); rw [if_neg q1]; by_cases q2 : m1 / 10000 = 2; (first | exact (if_pos q2).symm | (exfalso; omega)); rw [if_neg q2]; by_cases q3 : m1 / 10000 = 3; (first | (exfalso; omega) | (rw [if_pos q3, hr3 q3])); (first | exact (if_neg q3).symm | (exfalso; omega))); have e3 := congr (congrArg (fun (a b : Int → Int) => wM am ty τ (up (up ρ 27 a) 28 b) ++ cs) e1) e2; exact e3)⟩)
                  · refine lv_aload_n hx hb dX12_make_117 rfl (lv_at hl 5 rfl) ?_
                    refine va_get (D := G) (ci := 11) (v := .ref (am 17)) (C := RX12) (T := TX12) (N := 52) hx hb hts in_X12 hown hK hP 0 (aM_0 _ _ _ _ _) rfl 28 (by decide) (hts _ q1293) (fun _ h9 => h9) rfl dX12_make_118 ?_
                    refine li_iconst hx hb dX12_make_121 ?_
                    refine lv_iload_n hx hb dX12_make_122 rfl (lv_at hl 7 rfl) ?_
                    refine li_if_eq (tgt := 130) hx hb ⟨by decide, by decide⟩ dX12_make_123 (by decide) (fun c123 => ?_) (fun c123 => ?_)
                    · refine lv_iload hx hb dX12_make_130 (lv_at hl 1 rfl) ?_
                      refine li_iast (g := (ρ 28)) (W2 := wM am ty τ (up (up ρ 27 (ug (ug (ρ 27) 0 y57_0) 1 y57_1_0)) 28 (ug (ρ 28) 0 (m1 % 10))) ++ cs) hx hb hK hP hD hS 17 0 (aM_17 _ _ _ _ _) rfl (by decide) (by decide) (by decide) rfl dX12_make_132 (fun H locs hP hD hS => ?_)
                      refine lv_aload_n hx hb dX12_make_133 rfl (lv_at hl 5 rfl) ?_
                      refine va_get (D := G) (ci := 11) (v := .ref (am 17)) (C := RX12) (T := TX12) (N := 52) hx hb hts in_X12 hown hK hP 0 (aM_0 _ _ _ _ _) rfl 28 (by decide) (hts _ q1293) (fun _ h9 => h9) rfl dX12_make_134 ?_
                      refine li_iconst hx hb dX12_make_137 ?_
                      refine lv_iload_n hx hb dX12_make_138 rfl (lv_at hl 7 rfl) ?_
                      refine li_if_eq (tgt := 146) hx hb ⟨by decide, by decide⟩ dX12_make_139 (by decide) (fun c139 => ?_) (fun c139 => ?_)
                      · refine lv_iload hx hb dX12_make_146 (lv_at hl 1 rfl) ?_
                        refine li_iast (g := (ug (ρ 28) 0 (m1 % 10))) (W2 := wM am ty τ (up (up ρ 27 (ug (ug (ρ 27) 0 y57_0) 1 y57_1_0)) 28 (ug (ug (ρ 28) 0 (m1 % 10)) 1 (m1 % 10))) ++ cs) hx hb hK hP hD hS 17 0 (aM_17 _ _ _ _ _) rfl (by decide) (by decide) (by decide) rfl dX12_make_148 (fun H locs hP hD hS => ?_)
                        exact eMv hQ hx hb hr hlk hP hD hS (Nat.le_of_ble_eq_true rfl) (Nat.le_of_ble_eq_true rfl) dX12_make_149 (⟨rfl, by first | (exfalso; omega) | (have e1 : (ug (ug (ρ 27) 0 y57_0) 1 y57_1_0) = mvw (m1 / 1000 % 10) (m1 % 10) (ρ 27) := (by have u1 : (ug (ρ 27) 0 y57_0) 1 = ρ 27 1 := rfl; funext i; by_cases i0 : i = 0; (subst i0; show y57_0 = mvw (m1 / 1000 % 10) (m1 % 10) (ρ 27) 0; rw [mvw_0]; split <;> omega); by_cases i1 : i = 1; (subst i1; show y57_1_0 = mvw (m1 / 1000 % 10) (m1 % 10) (ρ 27) 1; rw [mvw_1]; split <;> omega); by_cases i2 : i = 2; (subst i2; show ρ 27 2 = mvw (m1 / 1000 % 10) (m1 % 10) (ρ 27) 2; rw [mvw_2]; split <;> omega); (rw [mvw_x i0 i1 i2, ug_n i1, ug_n i0])); have e2 : (ug (ug (ρ 28) 0 (m1 % 10)) 1 (m1 % 10)) = (mvq (m1 / 10000) (m1 / 100 % 10) (m1 % 10) (ρ 28)) := (by unfold mvq; by_cases q1 : m1 / 10000 = 1 ∨ m1 / 10000 = 6; (first | exact (if_pos q1).symm | (exfalso; omega)); rw [if_neg q1]; by_cases q2 : m1 / 10000 = 2; (first | exact (if_pos q2).symm | (exfalso; omega)); rw [if_neg q2]; by_cases q3 : m1 / 10000 = 3; (first | (exfalso; omega) | (rw [if_pos q3, hr3 q3])); (first | exact (if_neg q3).symm | (exfalso; omega))); have e3 := congr (congrArg (fun (a b : Int → Int) => wM am ty τ (up (up ρ 27 a) 28 b) ++ cs) e1) e2; exact e3)⟩)
                      · exact absurd c139 (by decide)
                    · exact absurd c123 (by decide)
                · refine lv_aload_n hx hb dX12_make_104 rfl (lv_at hl 5 rfl) ?_
                  refine va_get (D := G) (ci := 11) (v := .ref (am 17)) (C := RX12) (T := TX12) (N := 52) hx hb hts in_X12 hown hK hP 0 (aM_0 _ _ _ _ _) rfl 28 (by decide) (hts _ q1293) (fun _ h9 => h9) rfl dX12_make_105 ?_
                  refine lv_iload hx hb dX12_make_108 (lv_at hl 2 rfl) ?_
                  refine li_iconst hx hb dX12_make_110 ?_
                  refine li_iast (g := (ρ 28)) (W2 := wM am ty τ (up (up ρ 27 (ug (ug (ρ 27) 0 y57_0) 1 y57_1_0)) 28 (ug (ρ 28) ((m1 / 100) % 10) 5)) ++ cs) hx hb hK hP hD hS 17 0 (aM_17 _ _ _ _ _) rfl (by omega) (by omega) (by decide) rfl dX12_make_111 (fun H locs hP hD hS => ?_)
                  refine lv_iload_n hx hb dX12_make_112 rfl (lv_at hl 4 rfl) ?_
                  refine li_iconst hx hb dX12_make_113 ?_
                  refine li_icmp_ne (tgt := 149) hx hb ⟨by omega, by omega⟩ ⟨by decide, by decide⟩ dX12_make_114 (by decide) (fun c114 => ?_) (fun c114 => ?_)
                  · exact eMv hQ hx hb hr hlk hP hD hS (Nat.le_of_ble_eq_true rfl) (Nat.le_of_ble_eq_true rfl) dX12_make_149 (⟨rfl, by first | (exfalso; omega) | (have e1 : (ug (ug (ρ 27) 0 y57_0) 1 y57_1_0) = mvw (m1 / 1000 % 10) (m1 % 10) (ρ 27) := (by have u1 : (ug (ρ 27) 0 y57_0) 1 = ρ 27 1 := rfl; funext i; by_cases i0 : i = 0; (subst i0; show y57_0 = mvw (m1 / 1000 % 10) (m1 % 10) (ρ 27) 0; rw [mvw_0]; split <;> omega); by_cases i1 : i = 1; (subst i1; show y57_1_0 = mvw (m1 / 1000 % 10) (m1 % 10) (ρ 27) 1; rw [mvw_1]; split <;> omega); by_cases i2 : i = 2; (subst i2; show ρ 27 2 = mvw (m1 / 1000 % 10) (m1 % 10) (ρ 27) 2; rw [mvw_2]; split <;> omega); (rw [mvw_x i0 i1 i2, ug_n i1, ug_n i0])); have e2 : (ug (ρ 28) ((m1 / 100) % 10) 5) = (mvq (m1 / 10000) (m1 / 100 % 10) (m1 % 10) (ρ 28)) := (by unfold mvq; by_cases q1 : m1 / 10000 = 1 ∨ m1 / 10000 = 6; (first | exact (if_pos q1).symm | (exfalso; omega)); rw [if_neg q1]; by_cases q2 : m1 / 10000 = 2; (first | exact (if_pos q2).symm | (exfalso; omega)); rw [if_neg q2]; by_cases q3 : m1 / 10000 = 3; (first | (exfalso; omega) | (rw [if_pos q3, hr3 q3])); (first | exact (if_neg q3).symm | (exfalso; omega))); have e3 := congr (congrArg (fun (a b : Int → Int) => wM am ty τ (up (up ρ 27 a) 28 b) ++ cs) e1) e2; exact e3)⟩)
                  · refine lv_aload_n hx hb dX12_make_117 rfl (lv_at hl 5 rfl) ?_
                    refine va_get (D := G) (ci := 11) (v := .ref (am 17)) (C := RX12) (T := TX12) (N := 52) hx hb hts in_X12 hown hK hP 0 (aM_0 _ _ _ _ _) rfl 28 (by decide) (hts _ q1293) (fun _ h9 => h9) rfl dX12_make_118 ?_
                    refine li_iconst hx hb dX12_make_121 ?_
                    refine lv_iload_n hx hb dX12_make_122 rfl (lv_at hl 7 rfl) ?_
                    refine li_if_eq (tgt := 130) hx hb ⟨by decide, by decide⟩ dX12_make_123 (by decide) (fun c123 => ?_) (fun c123 => ?_)
                    · refine lv_iload hx hb dX12_make_130 (lv_at hl 1 rfl) ?_
                      refine li_iast (g := (ug (ρ 28) ((m1 / 100) % 10) 5)) (W2 := wM am ty τ (up (up ρ 27 (ug (ug (ρ 27) 0 y57_0) 1 y57_1_0)) 28 (ug (ug (ρ 28) ((m1 / 100) % 10) 5) 0 (m1 % 10))) ++ cs) hx hb hK hP hD hS 17 0 (aM_17 _ _ _ _ _) rfl (by decide) (by decide) (by decide) rfl dX12_make_132 (fun H locs hP hD hS => ?_)
                      refine lv_aload_n hx hb dX12_make_133 rfl (lv_at hl 5 rfl) ?_
                      refine va_get (D := G) (ci := 11) (v := .ref (am 17)) (C := RX12) (T := TX12) (N := 52) hx hb hts in_X12 hown hK hP 0 (aM_0 _ _ _ _ _) rfl 28 (by decide) (hts _ q1293) (fun _ h9 => h9) rfl dX12_make_134 ?_
                      refine li_iconst hx hb dX12_make_137 ?_
                      refine lv_iload_n hx hb dX12_make_138 rfl (lv_at hl 7 rfl) ?_
                      refine li_if_eq (tgt := 146) hx hb ⟨by decide, by decide⟩ dX12_make_139 (by decide) (fun c139 => ?_) (fun c139 => ?_)
                      · refine lv_iload hx hb dX12_make_146 (lv_at hl 1 rfl) ?_
                        refine li_iast (g := (ug (ug (ρ 28) ((m1 / 100) % 10) 5) 0 (m1 % 10))) (W2 := wM am ty τ (up (up ρ 27 (ug (ug (ρ 27) 0 y57_0) 1 y57_1_0)) 28 (ug (ug (ug (ρ 28) ((m1 / 100) % 10) 5) 0 (m1 % 10)) 1 (m1 % 10))) ++ cs) hx hb hK hP hD hS 17 0 (aM_17 _ _ _ _ _) rfl (by decide) (by decide) (by decide) rfl dX12_make_148 (fun H locs hP hD hS => ?_)
                        exact eMv hQ hx hb hr hlk hP hD hS (Nat.le_of_ble_eq_true rfl) (Nat.le_of_ble_eq_true rfl) dX12_make_149 (⟨rfl, by first | (exfalso; omega) | (have e1 : (ug (ug (ρ 27) 0 y57_0) 1 y57_1_0) = mvw (m1 / 1000 % 10) (m1 % 10) (ρ 27) := (by have u1 : (ug (ρ 27) 0 y57_0) 1 = ρ 27 1 := rfl; funext i; by_cases i0 : i = 0; (subst i0; show y57_0 = mvw (m1 / 1000 % 10) (m1 % 10) (ρ 27) 0; rw [mvw_0]; split <;> omega); by_cases i1 : i = 1; (subst i1; show y57_1_0 = mvw (m1 / 1000 % 10) (m1 % 10) (ρ 27) 1; rw [mvw_1]; split <;> omega); by_cases i2 : i = 2; (subst i2; show ρ 27 2 = mvw (m1 / 1000 % 10) (m1 % 10) (ρ 27) 2; rw [mvw_2]; split <;> omega); (rw [mvw_x i0 i1 i2, ug_n i1, ug_n i0])); have e2 : (ug (ug (ug (ρ 28) ((m1 / 100) % 10) 5) 0 (m1 % 10)) 1 (m1 % 10)) = (mvq (m1 / 10000) (m1 / 100 % 10) (m1 % 10) (ρ 28)) := (by unfold mvq; by_cases q1 : m1 / 10000 = 1 ∨ m1 / 10000 = 6; (first | exact (if_pos q1).symm | (exfalso; omega)); rw [if_neg q1]; by_cases q2 : m1 / 10000 = 2; (first | exact (if_pos q2).symm | (exfalso; omega)); rw [if_neg q2]; by_cases q3 : m1 / 10000 = 3; (first | (exfalso; omega) | (rw [if_pos q3, hr3 q3])); (first | exact (if_neg q3).symm | (exfalso; omega))); have e3 := congr (congrArg (fun (a b : Int → Int) => wM am ty τ (up (up ρ 27 a) 28 b) ++ cs) e1) e2; exact e3)⟩)
                      · exact absurd c139 (by decide)
                    · exact absurd c123 (by decide)
              · refine lv_aload_n hx hb dX12_make_90 rfl (lv_at hl 5 rfl) ?_
                refine va_get (D := G) (ci := 11) (v := .ref (am 17)) (C := RX12) (T := TX12) (N := 52) hx hb hts in_X12 hown hK hP 0 (aM_0 _ _ _ _ _) rfl 28 (by decide) (hts _ q1293) (fun _ h9 => h9) rfl dX12_make_91 ?_
                refine lv_iload hx hb dX12_make_94 (lv_at hl 2 rfl) ?_
                refine lv_iload hx hb dX12_make_96 (lv_at hl 1 rfl) ?_
                refine li_iast (g := (ρ 28)) (W2 := wM am ty τ (up (up ρ 27 (ug (ug (ρ 27) 0 y57_0) 1 y57_1_0)) 28 (ug (ρ 28) ((m1 / 100) % 10) (m1 % 10))) ++ cs) hx hb hK hP hD hS 17 0 (aM_17 _ _ _ _ _) rfl (by omega) (by omega) (by decide) rfl dX12_make_98 (fun H locs hP hD hS => ?_)
                refine lv_iload_n hx hb dX12_make_99 rfl (lv_at hl 4 rfl) ?_
                refine li_iconst hx hb dX12_make_100 ?_
                refine li_icmp_ne (tgt := 112) hx hb ⟨by omega, by omega⟩ ⟨by decide, by decide⟩ dX12_make_101 (by decide) (fun c101 => ?_) (fun c101 => ?_)
                · refine lv_iload_n hx hb dX12_make_112 rfl (lv_at hl 4 rfl) ?_
                  refine li_iconst hx hb dX12_make_113 ?_
                  refine li_icmp_ne (tgt := 149) hx hb ⟨by omega, by omega⟩ ⟨by decide, by decide⟩ dX12_make_114 (by decide) (fun c114 => ?_) (fun c114 => ?_)
                  · exact eMv hQ hx hb hr hlk hP hD hS (Nat.le_of_ble_eq_true rfl) (Nat.le_of_ble_eq_true rfl) dX12_make_149 (⟨rfl, by first | (exfalso; omega) | (have e1 : (ug (ug (ρ 27) 0 y57_0) 1 y57_1_0) = mvw (m1 / 1000 % 10) (m1 % 10) (ρ 27) := (by have u1 : (ug (ρ 27) 0 y57_0) 1 = ρ 27 1 := rfl; funext i; by_cases i0 : i = 0; (subst i0; show y57_0 = mvw (m1 / 1000 % 10) (m1 % 10) (ρ 27) 0; rw [mvw_0]; split <;> omega); by_cases i1 : i = 1; (subst i1; show y57_1_0 = mvw (m1 / 1000 % 10) (m1 % 10) (ρ 27) 1; rw [mvw_1]; split <;> omega); by_cases i2 : i = 2; (subst i2; show ρ 27 2 = mvw (m1 / 1000 % 10) (m1 % 10) (ρ 27) 2; rw [mvw_2]; split <;> omega); (rw [mvw_x i0 i1 i2, ug_n i1, ug_n i0])); have e2 : (ug (ρ 28) ((m1 / 100) % 10) (m1 % 10)) = (mvq (m1 / 10000) (m1 / 100 % 10) (m1 % 10) (ρ 28)) := (by unfold mvq; by_cases q1 : m1 / 10000 = 1 ∨ m1 / 10000 = 6; (first | exact (if_pos q1).symm | (exfalso; omega)); rw [if_neg q1]; by_cases q2 : m1 / 10000 = 2; (first | exact (if_pos q2).symm | (exfalso; omega)); rw [if_neg q2]; by_cases q3 : m1 / 10000 = 3; (first | (exfalso; omega) | (rw [if_pos q3, hr3 q3])); (first | exact (if_neg q3).symm | (exfalso; omega))); have e3 := congr (congrArg (fun (a b : Int → Int) => wM am ty τ (up (up ρ 27 a) 28 b) ++ cs) e1) e2; exact e3)⟩)
                  · refine lv_aload_n hx hb dX12_make_117 rfl (lv_at hl 5 rfl) ?_
                    refine va_get (D := G) (ci := 11) (v := .ref (am 17)) (C := RX12) (T := TX12) (N := 52) hx hb hts in_X12 hown hK hP 0 (aM_0 _ _ _ _ _) rfl 28 (by decide) (hts _ q1293) (fun _ h9 => h9) rfl dX12_make_118 ?_
                    refine li_iconst hx hb dX12_make_121 ?_
                    refine lv_iload_n hx hb dX12_make_122 rfl (lv_at hl 7 rfl) ?_
                    refine li_if_eq (tgt := 130) hx hb ⟨by decide, by decide⟩ dX12_make_123 (by decide) (fun c123 => ?_) (fun c123 => ?_)
                    · refine lv_iload hx hb dX12_make_130 (lv_at hl 1 rfl) ?_
                      refine li_iast (g := (ug (ρ 28) ((m1 / 100) % 10) (m1 % 10))) (W2 := wM am ty τ (up (up ρ 27 (ug (ug (ρ 27) 0 y57_0) 1 y57_1_0)) 28 (ug (ug (ρ 28) ((m1 / 100) % 10) (m1 % 10)) 0 (m1 % 10))) ++ cs) hx hb hK hP hD hS 17 0 (aM_17 _ _ _ _ _) rfl (by decide) (by decide) (by decide) rfl dX12_make_132 (fun H locs hP hD hS => ?_)
                      refine lv_aload_n hx hb dX12_make_133 rfl (lv_at hl 5 rfl) ?_
                      refine va_get (D := G) (ci := 11) (v := .ref (am 17)) (C := RX12) (T := TX12) (N := 52) hx hb hts in_X12 hown hK hP 0 (aM_0 _ _ _ _ _) rfl 28 (by decide) (hts _ q1293) (fun _ h9 => h9) rfl dX12_make_134 ?_
                      refine li_iconst hx hb dX12_make_137 ?_
                      refine lv_iload_n hx hb dX12_make_138 rfl (lv_at hl 7 rfl) ?_
                      refine li_if_eq (tgt := 146) hx hb ⟨by decide, by decide⟩ dX12_make_139 (by decide) (fun c139 => ?_) (fun c139 => ?_)
                      · refine lv_iload hx hb dX12_make_146 (lv_at hl 1 rfl) ?_
                        refine li_iast (g := (ug (ug (ρ 28) ((m1 / 100) % 10) (m1 % 10)) 0 (m1 % 10))) (W2 := wM am ty τ (up (up ρ 27 (ug (ug (ρ 27) 0 y57_0) 1 y57_1_0)) 28 (ug (ug (ug (ρ 28) ((m1 / 100) % 10) (m1 % 10)) 0 (m1 % 10)) 1 (m1 % 10))) ++ cs) hx hb hK hP hD hS 17 0 (aM_17 _ _ _ _ _) rfl (by decide) (by decide) (by decide) rfl dX12_make_148 (fun H locs hP hD hS => ?_)
                        exact eMv hQ hx hb hr hlk hP hD hS (Nat.le_of_ble_eq_true rfl) (Nat.le_of_ble_eq_true rfl) dX12_make_149 (⟨rfl, by first | (exfalso; omega) | (have e1 : (ug (ug (ρ 27) 0 y57_0) 1 y57_1_0) = mvw (m1 / 1000 % 10) (m1 % 10) (ρ 27) := (by have u1 : (ug (ρ 27) 0 y57_0) 1 = ρ 27 1 := rfl; funext i; by_cases i0 : i = 0; (subst i0; show y57_0 = mvw (m1 / 1000 % 10) (m1 % 10) (ρ 27) 0; rw [mvw_0]; split <;> omega); by_cases i1 : i = 1; (subst i1; show y57_1_0 = mvw (m1 / 1000 % 10) (m1 % 10) (ρ 27) 1; rw [mvw_1]; split <;> omega); by_cases i2 : i = 2; (subst i2; show ρ 27 2 = mvw (m1 / 1000 % 10) (m1 % 10) (ρ 27) 2; rw [mvw_2]; split <;> omega); (rw [mvw_x i0 i1 i2, ug_n i1, ug_n i0])); have e2 : (ug (ug (ug (ρ 28) ((m1 / 100) % 10) (m1 % 10)) 0 (m1 % 10)) 1 (m1 % 10)) = (mvq (m1 / 10000) (m1 / 100 % 10) (m1 % 10) (ρ 28)) := (by unfold mvq; by_cases q1 : m1 / 10000 = 1 ∨ m1 / 10000 = 6; (first | exact (if_pos q1).symm | (exfalso; omega)); rw [if_neg q1]; by_cases q2 : m1 / 10000 = 2; (first | exact (if_pos q2).symm | (exfalso; omega)); rw [if_neg q2]; by_cases q3 : m1 / 10000 = 3; (first | (exfalso; omega) | (rw [if_pos q3, hr3 q3])); (first | exact (if_neg q3).symm | (exfalso; omega))); have e3 := congr (congrArg (fun (a b : Int → Int) => wM am ty τ (up (up ρ 27 a) 28 b) ++ cs) e1) e2; exact e3)⟩)
                      · exact absurd c139 (by decide)
                    · exact absurd c123 (by decide)
                · refine lv_aload_n hx hb dX12_make_104 rfl (lv_at hl 5 rfl) ?_
                  refine va_get (D := G) (ci := 11) (v := .ref (am 17)) (C := RX12) (T := TX12) (N := 52) hx hb hts in_X12 hown hK hP 0 (aM_0 _ _ _ _ _) rfl 28 (by decide) (hts _ q1293) (fun _ h9 => h9) rfl dX12_make_105 ?_
                  refine lv_iload hx hb dX12_make_108 (lv_at hl 2 rfl) ?_
                  refine li_iconst hx hb dX12_make_110 ?_
                  refine li_iast (g := (ug (ρ 28) ((m1 / 100) % 10) (m1 % 10))) (W2 := wM am ty τ (up (up ρ 27 (ug (ug (ρ 27) 0 y57_0) 1 y57_1_0)) 28 (ug (ug (ρ 28) ((m1 / 100) % 10) (m1 % 10)) ((m1 / 100) % 10) 5)) ++ cs) hx hb hK hP hD hS 17 0 (aM_17 _ _ _ _ _) rfl (by omega) (by omega) (by decide) rfl dX12_make_111 (fun H locs hP hD hS => ?_)
                  refine lv_iload_n hx hb dX12_make_112 rfl (lv_at hl 4 rfl) ?_
                  refine li_iconst hx hb dX12_make_113 ?_
                  refine li_icmp_ne (tgt := 149) hx hb ⟨by omega, by omega⟩ ⟨by decide, by decide⟩ dX12_make_114 (by decide) (fun c114 => ?_) (fun c114 => ?_)
                  · exact eMv hQ hx hb hr hlk hP hD hS (Nat.le_of_ble_eq_true rfl) (Nat.le_of_ble_eq_true rfl) dX12_make_149 (⟨rfl, by first | (exfalso; omega) | (have e1 : (ug (ug (ρ 27) 0 y57_0) 1 y57_1_0) = mvw (m1 / 1000 % 10) (m1 % 10) (ρ 27) := (by have u1 : (ug (ρ 27) 0 y57_0) 1 = ρ 27 1 := rfl; funext i; by_cases i0 : i = 0; (subst i0; show y57_0 = mvw (m1 / 1000 % 10) (m1 % 10) (ρ 27) 0; rw [mvw_0]; split <;> omega); by_cases i1 : i = 1; (subst i1; show y57_1_0 = mvw (m1 / 1000 % 10) (m1 % 10) (ρ 27) 1; rw [mvw_1]; split <;> omega); by_cases i2 : i = 2; (subst i2; show ρ 27 2 = mvw (m1 / 1000 % 10) (m1 % 10) (ρ 27) 2; rw [mvw_2]; split <;> omega); (rw [mvw_x i0 i1 i2, ug_n i1, ug_n i0])); have e2 : (ug (ug (ρ 28) ((m1 / 100) % 10) (m1 % 10)) ((m1 / 100) % 10) 5) = (mvq (m1 / 10000) (m1 / 100 % 10) (m1 % 10) (ρ 28)) := (by unfold mvq; by_cases q1 : m1 / 10000 = 1 ∨ m1 / 10000 = 6; (first | exact (if_pos q1).symm | (exfalso; omega)); rw [if_neg q1]; by_cases q2 : m1 / 10000 = 2; (first | exact (if_pos q2).symm | (exfalso; omega)); rw [if_neg q2]; by_cases q3 : m1 / 10000 = 3; (first | (exfalso; omega) | (rw [if_pos q3, hr3 q3])); (first | exact (if_neg q3).symm | (exfalso; omega))); have e3 := congr (congrArg (fun (a b : Int → Int) => wM am ty τ (up (up ρ 27 a) 28 b) ++ cs) e1) e2; exact e3)⟩)
                  · refine lv_aload_n hx hb dX12_make_117 rfl (lv_at hl 5 rfl) ?_
                    refine va_get (D := G) (ci := 11) (v := .ref (am 17)) (C := RX12) (T := TX12) (N := 52) hx hb hts in_X12 hown hK hP 0 (aM_0 _ _ _ _ _) rfl 28 (by decide) (hts _ q1293) (fun _ h9 => h9) rfl dX12_make_118 ?_
                    refine li_iconst hx hb dX12_make_121 ?_
                    refine lv_iload_n hx hb dX12_make_122 rfl (lv_at hl 7 rfl) ?_
                    refine li_if_eq (tgt := 130) hx hb ⟨by decide, by decide⟩ dX12_make_123 (by decide) (fun c123 => ?_) (fun c123 => ?_)
                    · refine lv_iload hx hb dX12_make_130 (lv_at hl 1 rfl) ?_
                      refine li_iast (g := (ug (ug (ρ 28) ((m1 / 100) % 10) (m1 % 10)) ((m1 / 100) % 10) 5)) (W2 := wM am ty τ (up (up ρ 27 (ug (ug (ρ 27) 0 y57_0) 1 y57_1_0)) 28 (ug (ug (ug (ρ 28) ((m1 / 100) % 10) (m1 % 10)) ((m1 / 100) % 10) 5) 0 (m1 % 10))) ++ cs) hx hb hK hP hD hS 17 0 (aM_17 _ _ _ _ _) rfl (by decide) (by decide) (by decide) rfl dX12_make_132 (fun H locs hP hD hS => ?_)
                      refine lv_aload_n hx hb dX12_make_133 rfl (lv_at hl 5 rfl) ?_
                      refine va_get (D := G) (ci := 11) (v := .ref (am 17)) (C := RX12) (T := TX12) (N := 52) hx hb hts in_X12 hown hK hP 0 (aM_0 _ _ _ _ _) rfl 28 (by decide) (hts _ q1293) (fun _ h9 => h9) rfl dX12_make_134 ?_
                      refine li_iconst hx hb dX12_make_137 ?_
                      refine lv_iload_n hx hb dX12_make_138 rfl (lv_at hl 7 rfl) ?_
                      refine li_if_eq (tgt := 146) hx hb ⟨by decide, by decide⟩ dX12_make_139 (by decide) (fun c139 => ?_) (fun c139 => ?_)
                      · refine lv_iload hx hb dX12_make_146 (lv_at hl 1 rfl) ?_
                        refine li_iast (g := (ug (ug (ug (ρ 28) ((m1 / 100) % 10) (m1 % 10)) ((m1 / 100) % 10) 5) 0 (m1 % 10))) (W2 := wM am ty τ (up (up ρ 27 (ug (ug (ρ 27) 0 y57_0) 1 y57_1_0)) 28 (ug (ug (ug (ug (ρ 28) ((m1 / 100) % 10) (m1 % 10)) ((m1 / 100) % 10) 5) 0 (m1 % 10)) 1 (m1 % 10))) ++ cs) hx hb hK hP hD hS 17 0 (aM_17 _ _ _ _ _) rfl (by decide) (by decide) (by decide) rfl dX12_make_148 (fun H locs hP hD hS => ?_)
                        exact eMv hQ hx hb hr hlk hP hD hS (Nat.le_of_ble_eq_true rfl) (Nat.le_of_ble_eq_true rfl) dX12_make_149 (⟨rfl, by first | (exfalso; omega) | (have e1 : (ug (ug (ρ 27) 0 y57_0) 1 y57_1_0) = mvw (m1 / 1000 % 10) (m1 % 10) (ρ 27) := (by have u1 : (ug (ρ 27) 0 y57_0) 1 = ρ 27 1 := rfl; funext i; by_cases i0 : i = 0; (subst i0; show y57_0 = mvw (m1 / 1000 % 10) (m1 % 10) (ρ 27) 0; rw [mvw_0]; split <;> omega); by_cases i1 : i = 1; (subst i1; show y57_1_0 = mvw (m1 / 1000 % 10) (m1 % 10) (ρ 27) 1; rw [mvw_1]; split <;> omega); by_cases i2 : i = 2; (subst i2; show ρ 27 2 = mvw (m1 / 1000 % 10) (m1 % 10) (ρ 27) 2; rw [mvw_2]; split <;> omega); (rw [mvw_x i0 i1 i2, ug_n i1, ug_n i0])); have e2 : (ug (ug (ug (ug (ρ 28) ((m1 / 100) % 10) (m1 % 10)) ((m1 / 100) % 10) 5) 0 (m1 % 10)) 1 (m1 % 10)) = (mvq (m1 / 10000) (m1 / 100 % 10) (m1 % 10) (ρ 28)) := (by unfold mvq; by_cases q1 : m1 / 10000 = 1 ∨ m1 / 10000 = 6; (first | exact (if_pos q1).symm | (exfalso; omega)); rw [if_neg q1]; by_cases q2 : m1 / 10000 = 2; (first | exact (if_pos q2).symm | (exfalso; omega)); rw [if_neg q2]; by_cases q3 : m1 / 10000 = 3; (first | (exfalso; omega) | (rw [if_pos q3, hr3 q3])); (first | exact (if_neg q3).symm | (exfalso; omega))); have e3 := congr (congrArg (fun (a b : Int → Int) => wM am ty τ (up (up ρ 27 a) 28 b) ++ cs) e1) e2; exact e3)⟩)
                      · exact absurd c139 (by decide)
                    · exact absurd c123 (by decide)
          · refine lv_aload_n hx hb dX12_make_43 rfl (lv_at hl 5 rfl) ?_
            refine va_get (D := G) (ci := 11) (v := .ref (am 16)) (C := RX12) (T := TX12) (N := 52) hx hb hts in_X12 hown hK hP 0 (aM_0 _ _ _ _ _) rfl 27 (by decide) (hts _ q1292) (fun _ h9 => h9) rfl dX12_make_44 ?_
            refine lv_iload hx hb dX12_make_47 (lv_at hl 0 rfl) ?_
            refine lv_iload hx hb dX12_make_49 (lv_at hl 3 rfl) ?_
            refine lv_iload hx hb dX12_make_51 (lv_at hl 0 rfl) ?_
            refine lv_ishr hx hb dX12_make_53 ?_
            refine li_topx (z := (m1 / 1000) % 10 / 4) (ii_shr2 (by omega) (by omega)) ?_
            refine li_iconst hx hb dX12_make_54 ?_
            refine lv_iand hx hb dX12_make_55 ?_
            refine li_topx (z := ((m1 / 1000) % 10 / 4) % 2) (ii_and1 (by omega) (by omega)) ?_
            refine li_iconst hx hb dX12_make_56 ?_
            have J57_2 : ∀ (y57_2_0 : Int) (_ : ((¬ (((m1 / 1000) % 10 / 4) % 2) = 1) ∧ y57_2_0 = (ug (ug (ρ 27) 0 y57_0) 1 y57_1_0) 2) ∨ (((((m1 / 1000) % 10 / 4) % 2) = 1) ∧ y57_2_0 = m1 % 10)) (H : Heap) (locs : List Loc) (_ : va_P G gcl (wM am ty τ (up ρ 27 (ug (ug (ρ 27) 0 y57_0) 1 y57_1_0)) ++ cs) H) (_ : va_D A (wM am ty τ (up ρ 27 (ug (ug (ρ 27) 0 y57_0) 1 y57_1_0)) ++ cs)) (_ : va_S A s.heap H locs) (ls : Array Slot), lv_has ls 8 [(7, .int (ii 2)), (6, .int (ii (m1 % 10))), (5, .int (ii ((m1 / 100) % 10))), (4, .int (ii ((m1 / 1000) % 10))), (3, .int (ii (m1 / 10000))), (0, .ref (am 0)), (1, .int (ii m1)), (2, .int (ii 0))] → W p l e (rm4 0 0 0 0) s m args below meth c H locs 0 0 Q (F0 m 72 ls [.int (ii y57_2_0), .int (ii 2), .ref (am 16)]) := by
              intro y57_2_0 hj57_2 H locs hP hD hS ls hl
              refine li_iast (g := (ug (ug (ρ 27) 0 y57_0) 1 y57_1_0)) (W2 := wM am ty τ (up ρ 27 (ug (ug (ug (ρ 27) 0 y57_0) 1 y57_1_0) 2 y57_2_0)) ++ cs) hx hb hK hP hD hS 16 0 (aM_16 _ _ _ _ _) rfl (by decide) (by decide) (by decide) rfl dX12_make_72 (fun H locs hP hD hS => ?_)
              refine li_iinc (a := 2) (lv' := [(7, .int (ii 3)), (6, .int (ii (m1 % 10))), (5, .int (ii ((m1 / 100) % 10))), (4, .int (ii ((m1 / 1000) % 10))), (3, .int (ii (m1 / 10000))), (0, .ref (am 0)), (1, .int (ii m1)), (2, .int (ii 0))]) hx hb dX12_make_73 hl (k := 0) rfl (by decide) rfl (fun ls hl => ?_)
              refine lv_goto (tgt := 34) hx hb dX12_make_76 (by decide) ?_
              refine lv_iload hx hb dX12_make_34 (lv_at hl 0 rfl) ?_
              refine lv_aload_n hx hb dX12_make_36 rfl (lv_at hl 5 rfl) ?_
              refine va_get (D := G) (ci := 11) (v := .int (ii (τ 5 0))) (C := RX12) (T := TX12) (N := 52) hx hb hts in_X12 hown hK hP 0 (aM_0 _ _ _ _ _) rfl 5 (by decide) (hts _ q1270) (fun _ h9 => h9) rfl dX12_make_37 ?_
              refine li_icmp_ge (tgt := 79) hx hb ⟨by decide, by decide⟩ ⟨by omega, by omega⟩ dX12_make_40 (by decide) (fun c40 => ?_) (fun c40 => ?_)
              · refine lv_iload_n hx hb dX12_make_79 rfl (lv_at hl 4 rfl) ?_
                refine li_iconst hx hb dX12_make_80 ?_
                refine li_icmp_eq (tgt := 90) hx hb ⟨by omega, by omega⟩ ⟨by decide, by decide⟩ dX12_make_81 (by decide) (fun c81 => ?_) (fun c81 => ?_)
                · refine lv_aload_n hx hb dX12_make_90 rfl (lv_at hl 5 rfl) ?_
                  refine va_get (D := G) (ci := 11) (v := .ref (am 17)) (C := RX12) (T := TX12) (N := 52) hx hb hts in_X12 hown hK hP 0 (aM_0 _ _ _ _ _) rfl 28 (by decide) (hts _ q1293) (fun _ h9 => h9) rfl dX12_make_91 ?_
                  refine lv_iload hx hb dX12_make_94 (lv_at hl 2 rfl) ?_
                  refine lv_iload hx hb dX12_make_96 (lv_at hl 1 rfl) ?_
                  refine li_iast (g := (ρ 28)) (W2 := wM am ty τ (up (up ρ 27 (ug (ug (ug (ρ 27) 0 y57_0) 1 y57_1_0) 2 y57_2_0)) 28 (ug (ρ 28) ((m1 / 100) % 10) (m1 % 10))) ++ cs) hx hb hK hP hD hS 17 0 (aM_17 _ _ _ _ _) rfl (by omega) (by omega) (by decide) rfl dX12_make_98 (fun H locs hP hD hS => ?_)
                  refine lv_iload_n hx hb dX12_make_99 rfl (lv_at hl 4 rfl) ?_
                  refine li_iconst hx hb dX12_make_100 ?_
                  refine li_icmp_ne (tgt := 112) hx hb ⟨by omega, by omega⟩ ⟨by decide, by decide⟩ dX12_make_101 (by decide) (fun c101 => ?_) (fun c101 => ?_)
                  · refine lv_iload_n hx hb dX12_make_112 rfl (lv_at hl 4 rfl) ?_
                    refine li_iconst hx hb dX12_make_113 ?_
                    refine li_icmp_ne (tgt := 149) hx hb ⟨by omega, by omega⟩ ⟨by decide, by decide⟩ dX12_make_114 (by decide) (fun c114 => ?_) (fun c114 => ?_)
                    · exact eMv hQ hx hb hr hlk hP hD hS (Nat.le_of_ble_eq_true rfl) (Nat.le_of_ble_eq_true rfl) dX12_make_149 (⟨rfl, by first | (exfalso; omega) | (have e1 : (ug (ug (ug (ρ 27) 0 y57_0) 1 y57_1_0) 2 y57_2_0) = mvw (m1 / 1000 % 10) (m1 % 10) (ρ 27) := (by have u1 : (ug (ρ 27) 0 y57_0) 1 = ρ 27 1 := rfl; have u2 : (ug (ug (ρ 27) 0 y57_0) 1 y57_1_0) 2 = ρ 27 2 := rfl; funext i; by_cases i0 : i = 0; (subst i0; show y57_0 = mvw (m1 / 1000 % 10) (m1 % 10) (ρ 27) 0; rw [mvw_0]; split <;> omega); by_cases i1 : i = 1; (subst i1; show y57_1_0 = mvw (m1 / 1000 % 10) (m1 % 10) (ρ 27) 1; rw [mvw_1]; split <;> omega); by_cases i2 : i = 2; (subst i2; show y57_2_0 = mvw (m1 / 1000 % 10) (m1 % 10) (ρ 27) 2; rw [mvw_2]; split <;> omega); (rw [mvw_x i0 i1 i2, ug_n i2, ug_n i1, ug_n i0])); have e2 : (ug (ρ 28) ((m1 / 100) % 10) (m1 % 10)) = (mvq (m1 / 10000) (m1 / 100 % 10) (m1 % 10) (ρ 28)) := (by unfold mvq; by_cases q1 : m1 / 10000 = 1 ∨ m1 / 10000 = 6; (first | exact (if_pos q1).symm | (exfalso; omega)); rw [if_neg q1]; by_cases q2 : m1 / 10000 = 2; (first | exact (if_pos q2).symm | (exfalso; omega)); rw [if_neg q2]; by_cases q3 : m1 / 10000 = 3; (first | (exfalso; omega) | (rw [if_pos q3, hr3 q3])); (first | exact (if_neg q3).symm | (exfalso; omega))); have e3 := congr (congrArg (fun (a b : Int → Int) => wM am ty τ (up (up ρ 27 a) 28 b) ++ cs) e1) e2; exact e3)⟩)
                    · refine lv_aload_n hx hb dX12_make_117 rfl (lv_at hl 5 rfl) ?_
                      refine va_get (D := G) (ci := 11) (v := .ref (am 17)) (C := RX12) (T := TX12) (N := 52) hx hb hts in_X12 hown hK hP 0 (aM_0 _ _ _ _ _) rfl 28 (by decide) (hts _ q1293) (fun _ h9 => h9) rfl dX12_make_118 ?_
                      refine li_iconst hx hb dX12_make_121 ?_
                      refine lv_iload_n hx hb dX12_make_122 rfl (lv_at hl 7 rfl) ?_
                      refine li_if_eq (tgt := 130) hx hb ⟨by decide, by decide⟩ dX12_make_123 (by decide) (fun c123 => ?_) (fun c123 => ?_)
                      · refine lv_iload hx hb dX12_make_130 (lv_at hl 1 rfl) ?_
                        refine li_iast (g := (ug (ρ 28) ((m1 / 100) % 10) (m1 % 10))) (W2 := wM am ty τ (up (up ρ 27 (ug (ug (ug (ρ 27) 0 y57_0) 1 y57_1_0) 2 y57_2_0)) 28 (ug (ug (ρ 28) ((m1 / 100) % 10) (m1 % 10)) 0 (m1 % 10))) ++ cs) hx hb hK hP hD hS 17 0 (aM_17 _ _ _ _ _) rfl (by decide) (by decide) (by decide) rfl dX12_make_132 (fun H locs hP hD hS => ?_)
                        refine lv_aload_n hx hb dX12_make_133 rfl (lv_at hl 5 rfl) ?_
                        refine va_get (D := G) (ci := 11) (v := .ref (am 17)) (C := RX12) (T := TX12) (N := 52) hx hb hts in_X12 hown hK hP 0 (aM_0 _ _ _ _ _) rfl 28 (by decide) (hts _ q1293) (fun _ h9 => h9) rfl dX12_make_134 ?_
                        refine li_iconst hx hb dX12_make_137 ?_
                        refine lv_iload_n hx hb dX12_make_138 rfl (lv_at hl 7 rfl) ?_
                        refine li_if_eq (tgt := 146) hx hb ⟨by decide, by decide⟩ dX12_make_139 (by decide) (fun c139 => ?_) (fun c139 => ?_)
                        · refine lv_iload hx hb dX12_make_146 (lv_at hl 1 rfl) ?_
                          refine li_iast (g := (ug (ug (ρ 28) ((m1 / 100) % 10) (m1 % 10)) 0 (m1 % 10))) (W2 := wM am ty τ (up (up ρ 27 (ug (ug (ug (ρ 27) 0 y57_0) 1 y57_1_0) 2 y57_2_0)) 28 (ug (ug (ug (ρ 28) ((m1 / 100) % 10) (m1 % 10)) 0 (m1 % 10)) 1 (m1 % 10))) ++ cs) hx hb hK hP hD hS 17 0 (aM_17 _ _ _ _ _) rfl (by decide) (by decide) (by decide) rfl dX12_make_148 (fun H locs hP hD hS => ?_)
                          exact eMv hQ hx hb hr hlk hP hD hS (Nat.le_of_ble_eq_true rfl) (Nat.le_of_ble_eq_true rfl) dX12_make_149 (⟨rfl, by first | (exfalso; omega) | (have e1 : (ug (ug (ug (ρ 27) 0 y57_0) 1 y57_1_0) 2 y57_2_0) = mvw (m1 / 1000 % 10) (m1 % 10) (ρ 27) := (by have u1 : (ug (ρ 27) 0 y57_0) 1 = ρ 27 1 := rfl; have u2 : (ug (ug (ρ 27) 0 y57_0) 1 y57_1_0) 2 = ρ 27 2 := rfl; funext i; by_cases i0 : i = 0; (subst i0; show y57_0 = mvw (m1 / 1000 % 10) (m1 % 10) (ρ 27) 0; rw [mvw_0]; split <;> omega); by_cases i1 : i = 1; (subst i1; show y57_1_0 = mvw (m1 / 1000 % 10) (m1 % 10) (ρ 27) 1; rw [mvw_1]; split <;> omega); by_cases i2 : i = 2; (subst i2; show y57_2_0 = mvw (m1 / 1000 % 10) (m1 % 10) (ρ 27) 2; rw [mvw_2]; split <;> omega); (rw [mvw_x i0 i1 i2, ug_n i2, ug_n i1, ug_n i0])); have e2 : (ug (ug (ug (ρ 28) ((m1 / 100) % 10) (m1 % 10)) 0 (m1 % 10)) 1 (m1 % 10)) = (mvq (m1 / 10000) (m1 / 100 % 10) (m1 % 10) (ρ 28)) := (by unfold mvq; by_cases q1 : m1 / 10000 = 1 ∨ m1 / 10000 = 6; (first | exact (if_pos q1).symm | (exfalso; omega)); rw [if_neg q1]; by_cases q2 : m1 / 10000 = 2; (first | exact (if_pos q2).symm | (exfalso; omega)); rw [if_neg q2]; by_cases q3 : m1 / 10000 = 3; (first | (exfalso; omega) | (rw [if_pos q3, hr3 q3])); (first | exact (if_neg q3).symm | (exfalso; omega))); have e3 := congr (congrArg (fun (a b : Int → Int) => wM am ty τ (up (up ρ 27 a) 28 b) ++ cs) e1) e2; exact e3)⟩)
                        · exact absurd c139 (by decide)
                      · exact absurd c123 (by decide)
                  · refine lv_aload_n hx hb dX12_make_104 rfl (lv_at hl 5 rfl) ?_
                    refine va_get (D := G) (ci := 11) (v := .ref (am 17)) (C := RX12) (T := TX12) (N := 52) hx hb hts in_X12 hown hK hP 0 (aM_0 _ _ _ _ _) rfl 28 (by decide) (hts _ q1293) (fun _ h9 => h9) rfl dX12_make_105 ?_
                    refine lv_iload hx hb dX12_make_108 (lv_at hl 2 rfl) ?_
                    refine li_iconst hx hb dX12_make_110 ?_
                    refine li_iast (g := (ug (ρ 28) ((m1 / 100) % 10) (m1 % 10))) (W2 := wM am ty τ (up (up ρ 27 (ug (ug (ug (ρ 27) 0 y57_0) 1 y57_1_0) 2 y57_2_0)) 28 (ug (ug (ρ 28) ((m1 / 100) % 10) (m1 % 10)) ((m1 / 100) % 10) 5)) ++ cs) hx hb hK hP hD hS 17 0 (aM_17 _ _ _ _ _) rfl (by omega) (by omega) (by decide) rfl dX12_make_111 (fun H locs hP hD hS => ?_)
                    refine lv_iload_n hx hb dX12_make_112 rfl (lv_at hl 4 rfl) ?_
                    refine li_iconst hx hb dX12_make_113 ?_
                    refine li_icmp_ne (tgt := 149) hx hb ⟨by omega, by omega⟩ ⟨by decide, by decide⟩ dX12_make_114 (by decide) (fun c114 => ?_) (fun c114 => ?_)
                    · exact eMv hQ hx hb hr hlk hP hD hS (Nat.le_of_ble_eq_true rfl) (Nat.le_of_ble_eq_true rfl) dX12_make_149 (⟨rfl, by first | (exfalso; omega) | (have e1 : (ug (ug (ug (ρ 27) 0 y57_0) 1 y57_1_0) 2 y57_2_0) = mvw (m1 / 1000 % 10) (m1 % 10) (ρ 27) := (by have u1 : (ug (ρ 27) 0 y57_0) 1 = ρ 27 1 := rfl; have u2 : (ug (ug (ρ 27) 0 y57_0) 1 y57_1_0) 2 = ρ 27 2 := rfl; funext i; by_cases i0 : i = 0; (subst i0; show y57_0 = mvw (m1 / 1000 % 10) (m1 % 10) (ρ 27) 0; rw [mvw_0]; split <;> omega); by_cases i1 : i = 1; (subst i1; show y57_1_0 = mvw (m1 / 1000 % 10) (m1 % 10) (ρ 27) 1; rw [mvw_1]; split <;> omega); by_cases i2 : i = 2; (subst i2; show y57_2_0 = mvw (m1 / 1000 % 10) (m1 % 10) (ρ 27) 2; rw [mvw_2]; split <;> omega); (rw [mvw_x i0 i1 i2, ug_n i2, ug_n i1, ug_n i0])); have e2 : (ug (ug (ρ 28) ((m1 / 100) % 10) (m1 % 10)) ((m1 / 100) % 10) 5) = (mvq (m1 / 10000) (m1 / 100 % 10) (m1 % 10) (ρ 28)) := (by unfold mvq; by_cases q1 : m1 / 10000 = 1 ∨ m1 / 10000 = 6; (first | exact (if_pos q1).symm | (exfalso; omega)); rw [if_neg q1]; by_cases q2 : m1 / 10000 = 2; (first | exact (if_pos q2).symm | (exfalso; omega)); rw [if_neg q2]; by_cases q3 : m1 / 10000 = 3; (first | (exfalso; omega) | (rw [if_pos q3, hr3 q3])); (first | exact (if_neg q3).symm | (exfalso; omega))); have e3 := congr (congrArg (fun (a b : Int → Int) => wM am ty τ (up (up ρ 27 a) 28 b) ++ cs) e1) e2; exact e3)⟩)
                    · refine lv_aload_n hx hb dX12_make_117 rfl (lv_at hl 5 rfl) ?_
                      refine va_get (D := G) (ci := 11) (v := .ref (am 17)) (C := RX12) (T := TX12) (N := 52) hx hb hts in_X12 hown hK hP 0 (aM_0 _ _ _ _ _) rfl 28 (by decide) (hts _ q1293) (fun _ h9 => h9) rfl dX12_make_118 ?_
                      refine li_iconst hx hb dX12_make_121 ?_
                      refine lv_iload_n hx hb dX12_make_122 rfl (lv_at hl 7 rfl) ?_
                      refine li_if_eq (tgt := 130) hx hb ⟨by decide, by decide⟩ dX12_make_123 (by decide) (fun c123 => ?_) (fun c123 => ?_)
                      · refine lv_iload hx hb dX12_make_130 (lv_at hl 1 rfl) ?_
                        refine li_iast (g := (ug (ug (ρ 28) ((m1 / 100) % 10) (m1 % 10)) ((m1 / 100) % 10) 5)) (W2 := wM am ty τ (up (up ρ 27 (ug (ug (ug (ρ 27) 0 y57_0) 1 y57_1_0) 2 y57_2_0)) 28 (ug (ug (ug (ρ 28) ((m1 / 100) % 10) (m1 % 10)) ((m1 / 100) % 10) 5) 0 (m1 % 10))) ++ cs) hx hb hK hP hD hS 17 0 (aM_17 _ _ _ _ _) rfl (by decide) (by decide) (by decide) rfl dX12_make_132 (fun H locs hP hD hS => ?_)
                        refine lv_aload_n hx hb dX12_make_133 rfl (lv_at hl 5 rfl) ?_
                        refine va_get (D := G) (ci := 11) (v := .ref (am 17)) (C := RX12) (T := TX12) (N := 52) hx hb hts in_X12 hown hK hP 0 (aM_0 _ _ _ _ _) rfl 28 (by decide) (hts _ q1293) (fun _ h9 => h9) rfl dX12_make_134 ?_
                        refine li_iconst hx hb dX12_make_137 ?_
                        refine lv_iload_n hx hb dX12_make_138 rfl (lv_at hl 7 rfl) ?_
                        refine li_if_eq (tgt := 146) hx hb ⟨by decide, by decide⟩ dX12_make_139 (by decide) (fun c139 => ?_) (fun c139 => ?_)
                        · refine lv_iload hx hb dX12_make_146 (lv_at hl 1 rfl) ?_
                          refine li_iast (g := (ug (ug (ug (ρ 28) ((m1 / 100) % 10) (m1 % 10)) ((m1 / 100) % 10) 5) 0 (m1 % 10))) (W2 := wM am ty τ (up (up ρ 27 (ug (ug (ug (ρ 27) 0 y57_0) 1 y57_1_0) 2 y57_2_0)) 28 (ug (ug (ug (ug (ρ 28) ((m1 / 100) % 10) (m1 % 10)) ((m1 / 100) % 10) 5) 0 (m1 % 10)) 1 (m1 % 10))) ++ cs) hx hb hK hP hD hS 17 0 (aM_17 _ _ _ _ _) rfl (by decide) (by decide) (by decide) rfl dX12_make_148 (fun H locs hP hD hS => ?_)
                          exact eMv hQ hx hb hr hlk hP hD hS (Nat.le_of_ble_eq_true rfl) (Nat.le_of_ble_eq_true rfl) dX12_make_149 (⟨rfl, by first | (exfalso; omega) | (have e1 : (ug (ug (ug (ρ 27) 0 y57_0) 1 y57_1_0) 2 y57_2_0) = mvw (m1 / 1000 % 10) (m1 % 10) (ρ 27) := (by have u1 : (ug (ρ 27) 0 y57_0) 1 = ρ 27 1 := rfl; have u2 : (ug (ug (ρ 27) 0 y57_0) 1 y57_1_0) 2 = ρ 27 2 := rfl; funext i; by_cases i0 : i = 0; (subst i0; show y57_0 = mvw (m1 / 1000 % 10) (m1 % 10) (ρ 27) 0; rw [mvw_0]; split <;> omega); by_cases i1 : i = 1; (subst i1; show y57_1_0 = mvw (m1 / 1000 % 10) (m1 % 10) (ρ 27) 1; rw [mvw_1]; split <;> omega); by_cases i2 : i = 2; (subst i2; show y57_2_0 = mvw (m1 / 1000 % 10) (m1 % 10) (ρ 27) 2; rw [mvw_2]; split <;> omega); (rw [mvw_x i0 i1 i2, ug_n i2, ug_n i1, ug_n i0])); have e2 : (ug (ug (ug (ug (ρ 28) ((m1 / 100) % 10) (m1 % 10)) ((m1 / 100) % 10) 5) 0 (m1 % 10)) 1 (m1 % 10)) = (mvq (m1 / 10000) (m1 / 100 % 10) (m1 % 10) (ρ 28)) := (by unfold mvq; by_cases q1 : m1 / 10000 = 1 ∨ m1 / 10000 = 6; (first | exact (if_pos q1).symm | (exfalso; omega)); rw [if_neg q1]; by_cases q2 : m1 / 10000 = 2; (first | exact (if_pos q2).symm | (exfalso; omega)); rw [if_neg q2]; by_cases q3 : m1 / 10000 = 3; (first | (exfalso; omega) | (rw [if_pos q3, hr3 q3])); (first | exact (if_neg q3).symm | (exfalso; omega))); have e3 := congr (congrArg (fun (a b : Int → Int) => wM am ty τ (up (up ρ 27 a) 28 b) ++ cs) e1) e2; exact e3)⟩)
                        · exact absurd c139 (by decide)
                      · exact absurd c123 (by decide)
                · refine lv_iload_n hx hb dX12_make_84 rfl (lv_at hl 4 rfl) ?_
                  refine li_bipush hx hb dX12_make_85 (by decide) ?_
                  refine li_icmp_ne (tgt := 99) hx hb ⟨by omega, by omega⟩ ⟨by decide, by decide⟩ dX12_make_87 (by decide) (fun c87 => ?_) (fun c87 => ?_)
                  · refine lv_iload_n hx hb dX12_make_99 rfl (lv_at hl 4 rfl) ?_
                    refine li_iconst hx hb dX12_make_100 ?_
                    refine li_icmp_ne (tgt := 112) hx hb ⟨by omega, by omega⟩ ⟨by decide, by decide⟩ dX12_make_101 (by decide) (fun c101 => ?_) (fun c101 => ?_)
                    · refine lv_iload_n hx hb dX12_make_112 rfl (lv_at hl 4 rfl) ?_
                      refine li_iconst hx hb dX12_make_113 ?_
                      refine li_icmp_ne (tgt := 149) hx hb ⟨by omega, by omega⟩ ⟨by decide, by decide⟩ dX12_make_114 (by decide) (fun c114 => ?_) (fun c114 => ?_)
                      · exact eMv hQ hx hb hr hlk hP hD hS (Nat.le_of_ble_eq_true rfl) (Nat.le_of_ble_eq_true rfl) dX12_make_149 (⟨rfl, by first | (exfalso; omega) | (have e1 : (ug (ug (ug (ρ 27) 0 y57_0) 1 y57_1_0) 2 y57_2_0) = mvw (m1 / 1000 % 10) (m1 % 10) (ρ 27) := (by have u1 : (ug (ρ 27) 0 y57_0) 1 = ρ 27 1 := rfl; have u2 : (ug (ug (ρ 27) 0 y57_0) 1 y57_1_0) 2 = ρ 27 2 := rfl; funext i; by_cases i0 : i = 0; (subst i0; show y57_0 = mvw (m1 / 1000 % 10) (m1 % 10) (ρ 27) 0; rw [mvw_0]; split <;> omega); by_cases i1 : i = 1; (subst i1; show y57_1_0 = mvw (m1 / 1000 % 10) (m1 % 10) (ρ 27) 1; rw [mvw_1]; split <;> omega); by_cases i2 : i = 2; (subst i2; show y57_2_0 = mvw (m1 / 1000 % 10) (m1 % 10) (ρ 27) 2; rw [mvw_2]; split <;> omega); (rw [mvw_x i0 i1 i2, ug_n i2, ug_n i1, ug_n i0])); have e2 : (ρ 28) = (mvq (m1 / 10000) (m1 / 100 % 10) (m1 % 10) (ρ 28)) := (by unfold mvq; by_cases q1 : m1 / 10000 = 1 ∨ m1 / 10000 = 6; (first | exact (if_pos q1).symm | (exfalso; omega)); rw [if_neg q1]; by_cases q2 : m1 / 10000 = 2; (first | exact (if_pos q2).symm | (exfalso; omega)); rw [if_neg q2]; by_cases q3 : m1 / 10000 = 3; (first | (exfalso; omega) | (rw [if_pos q3, hr3 q3])); (first | exact (if_neg q3).symm | (exfalso; omega))); have e3 := congr (congrArg (fun (a b : Int → Int) => wM am ty τ (up (up ρ 27 a) 28 b) ++ cs) e1) e2; exact e3)⟩)
                      · refine lv_aload_n hx hb dX12_make_117 rfl (lv_at hl 5 rfl) ?_
                        refine va_get (D := G) (ci := 11) (v := .ref (am 17)) (C := RX12) (T := TX12) (N := 52) hx hb hts in_X12 hown hK hP 0 (aM_0 _ _ _ _ _) rfl 28 (by decide) (hts _ q1293) (fun _ h9 => h9) rfl dX12_make_118 ?_
                        refine li_iconst hx hb dX12_make_121 ?_
                        refine lv_iload_n hx hb dX12_make_122 rfl (lv_at hl 7 rfl) ?_
                        refine li_if_eq (tgt := 130) hx hb ⟨by decide, by decide⟩ dX12_make_123 (by decide) (fun c123 => ?_) (fun c123 => ?_)
                        · refine lv_iload hx hb dX12_make_130 (lv_at hl 1 rfl) ?_
                          refine li_iast (g := (ρ 28)) (W2 := wM am ty τ (up (up ρ 27 (ug (ug (ug (ρ 27) 0 y57_0) 1 y57_1_0) 2 y57_2_0)) 28 (ug (ρ 28) 0 (m1 % 10))) ++ cs) hx hb hK hP hD hS 17 0 (aM_17 _ _ _ _ _) rfl (by decide) (by decide) (by decide) rfl dX12_make_132 (fun H locs hP hD hS => ?_)
                          refine lv_aload_n hx hb dX12_make_133 rfl (lv_at hl 5 rfl) ?_
                          refine va_get (D := G) (ci := 11) (v := .ref (am 17)) (C := RX12) (T := TX12) (N := 52) hx hb hts in_X12 hown hK hP 0 (aM_0 _ _ _ _ _) rfl 28 (by decide) (hts _ q1293) (fun _ h9 => h9) rfl dX12_make_134 ?_
                          refine li_iconst hx hb dX12_make_137 ?_
                          refine lv_iload_n hx hb dX12_make_138 rfl (lv_at hl 7 rfl) ?_
                          refine li_if_eq (tgt := 146) hx hb ⟨by decide, by decide⟩ dX12_make_139 (by decide) (fun c139 => ?_) (fun c139 => ?_)
                          · refine lv_iload hx hb dX12_make_146 (lv_at hl 1 rfl) ?_
                            refine li_iast (g := (ug (ρ 28) 0 (m1 % 10))) (W2 := wM am ty τ (up (up ρ 27 (ug (ug (ug (ρ 27) 0 y57_0) 1 y57_1_0) 2 y57_2_0)) 28 (ug (ug (ρ 28) 0 (m1 % 10)) 1 (m1 % 10))) ++ cs) hx hb hK hP hD hS 17 0 (aM_17 _ _ _ _ _) rfl (by decide) (by decide) (by decide) rfl dX12_make_148 (fun H locs hP hD hS => ?_)
                            exact eMv hQ hx hb hr hlk hP hD hS (Nat.le_of_ble_eq_true rfl) (Nat.le_of_ble_eq_true rfl) dX12_make_149 (⟨rfl, by first | (exfalso; omega) | (have e1 : (ug (ug (ug (ρ 27) 0 y57_0) 1 y57_1_0) 2 y57_2_0) = mvw (m1 / 1000 % 10) (m1 % 10) (ρ 27) := (by have u1 : (ug (ρ 27) 0 y57_0) 1 = ρ 27 1 := rfl; have u2 : (ug (ug (ρ 27) 0 y57_0) 1 y57_1_0) 2 = ρ 27 2 := rfl; funext i; by_cases i0 : i = 0; (subst i0; show y57_0 = mvw (m1 / 1000 % 10) (m1 % 10) (ρ 27) 0; rw [mvw_0]; split <;> omega); by_cases i1 : i = 1; (subst i1; show y57_1_0 = mvw (m1 / 1000 % 10) (m1 % 10) (ρ 27) 1; rw [mvw_1]; split <;> omega); by_cases i2 : i = 2; (subst i2; show y57_2_0 = mvw (m1 / 1000 % 10) (m1 % 10) (ρ 27) 2; rw [mvw_2]; split <;> omega); (rw [mvw_x i0 i1 i2, ug_n i2, ug_n i1, ug_n i0])); have e2 : (ug (ug (ρ 28) 0 (m1 % 10)) 1 (m1 % 10)) = (mvq (m1 / 10000) (m1 / 100 % 10) (m1 % 10) (ρ 28)) := (by unfold mvq; by_cases q1 : m1 / 10000 = 1 ∨ m1 / 10000 = 6; (first | exact (if_pos q1).symm | (exfalso; omega)); rw [if_neg q1]; by_cases q2 : m1 / 10000 = 2; (first | exact (if_pos q2).symm | (exfalso; omega)); rw [if_neg q2]; by_cases q3 : m1 / 10000 = 3; (first | (exfalso; omega) | (rw [if_pos q3, hr3 q3])); (first | exact (if_neg q3).symm | (exfalso; omega))); have e3 := congr (congrArg (fun (a b : Int → Int) => wM am ty τ (up (up ρ 27 a) 28 b) ++ cs) e1) e2; exact e3)⟩)
                          · exact absurd c139 (by decide)
                        · exact absurd c123 (by decide)
                    · refine lv_aload_n hx hb dX12_make_104 rfl (lv_at hl 5 rfl) ?_
                      refine va_get (D := G) (ci := 11) (v := .ref (am 17)) (C := RX12) (T := TX12) (N := 52) hx hb hts in_X12 hown hK hP 0 (aM_0 _ _ _ _ _) rfl 28 (by decide) (hts _ q1293) (fun _ h9 => h9) rfl dX12_make_105 ?_
                      refine lv_iload hx hb dX12_make_108 (lv_at hl 2 rfl) ?_
                      refine li_iconst hx hb dX12_make_110 ?_
                      refine li_iast (g := (ρ 28)) (W2 := wM am ty τ (up (up ρ 27 (ug (ug (ug (ρ 27) 0 y57_0) 1 y57_1_0) 2 y57_2_0)) 28 (ug (ρ 28) ((m1 / 100) % 10) 5)) ++ cs) hx hb hK hP hD hS 17 0 (aM_17 _ _ _ _ _) rfl (by omega) (by omega) (by decide) rfl dX12_make_111 (fun H locs hP hD hS => ?_)
                      refine lv_iload_n hx hb dX12_make_112 rfl (lv_at hl 4 rfl) ?_
                      refine li_iconst hx hb dX12_make_113 ?_
                      refine li_icmp_ne (tgt := 149) hx hb ⟨by omega, by omega⟩ ⟨by decide, by decide⟩ dX12_make_114 (by decide) (fun c114 => ?_) (fun c114 => ?_)
                      · exact eMv hQ hx hb hr hlk hP hD hS (Nat.le_of_ble_eq_true rfl) (Nat.le_of_ble_eq_true rfl) dX12_make_149 (⟨rfl, by first | (exfalso; omega) | (have e1 : (ug (ug (ug (ρ 27) 0 y57_0) 1 y57_1_0) 2 y57_2_0) = mvw (m1 / 1000 % 10) (m1 % 10) (ρ 27) := (by have u1 : (ug (ρ 27) 0 y57_0) 1 = ρ 27 1 := rfl; have u2 : (ug (ug (ρ 27) 0 y57_0) 1 y57_1_0) 2 = ρ 27 2 := rfl; funext i; by_cases i0 : i = 0; (subst i0; show y57_0 = mvw (m1 / 1000 % 10) (m1 % 10) (ρ 27) 0; rw [mvw_0]; split <;> omega); by_cases i1 : i = 1; (subst i1; show y57_1_0 = mvw (m1 / 1000 % 10) (m1 % 10) (ρ 27) 1; rw [mvw_1]; split <;> omega); by_cases i2 : i = 2; (subst i2; show y57_2_0 = mvw (m1 / 1000 % 10) (m1 % 10) (ρ 27) 2; rw [mvw_2]; split <;> omega); (rw [mvw_x i0 i1 i2, ug_n i2, ug_n i1, ug_n i0])); have e2 : (ug (ρ 28) ((m1 / 100) % 10) 5) = (mvq (m1 / 10000) (m1 / 100 % 10) (m1 % 10) (ρ 28)) := (by unfold mvq; by_cases q1 : m1 / 10000 = 1 ∨ m1 / 10000 = 6; (first | exact (if_pos q1).symm | (exfalso; omega)); rw [if_neg q1]; by_cases q2 : m1 / 10000 = 2; (first | exact (if_pos q2).symm | (exfalso; omega)); rw [if_neg q2]; by_cases q3 : m1 / 10000 = 3; (first | (exfalso; omega) | (rw [if_pos q3, hr3 q3])); (first | exact (if_neg q3).symm | (exfalso; omega))); have e3 := congr (congrArg (fun (a b : Int → Int) => wM am ty τ (up (up ρ 27 a) 28 b) ++ cs) e1) e2; exact e3)⟩)
                      · refine lv_aload_n hx hb dX12_make_117 rfl (lv_at hl 5 rfl) ?_
                        refine va_get (D := G) (ci := 11) (v := .ref (am 17)) (C := RX12) (T := TX12) (N := 52) hx hb hts in_X12 hown hK hP 0 (aM_0 _ _ _ _ _) rfl 28 (by decide) (hts _ q1293) (fun _ h9 => h9) rfl dX12_make_118 ?_
                        refine li_iconst hx hb dX12_make_121 ?_
                        refine lv_iload_n hx hb dX12_make_122 rfl (lv_at hl 7 rfl) ?_
                        refine li_if_eq (tgt := 130) hx hb ⟨by decide, by decide⟩ dX12_make_123 (by decide) (fun c123 => ?_) (fun c123 => ?_)
                        · refine lv_iload hx hb dX12_make_130 (lv_at hl 1 rfl) ?_
                          refine li_iast (g := (ug (ρ 28) ((m1 / 100) % 10) 5)) (W2 := wM am ty τ (up (up ρ 27 (ug (ug (ug (ρ 27) 0 y57_0) 1 y57_1_0) 2 y57_2_0)) 28 (ug (ug (ρ 28) ((m1 / 100) % 10) 5) 0 (m1 % 10))) ++ cs) hx hb hK hP hD hS 17 0 (aM_17 _ _ _ _ _) rfl (by decide) (by decide) (by decide) rfl dX12_make_132 (fun H locs hP hD hS => ?_)
                          refine lv_aload_n hx hb dX12_make_133 rfl (lv_at hl 5 rfl) ?_
                          refine va_get (D := G) (ci := 11) (v := .ref (am 17)) (C := RX12) (T := TX12) (N := 52) hx hb hts in_X12 hown hK hP 0 (aM_0 _ _ _ _ _) rfl 28 (by decide) (hts _ q1293) (fun _ h9 => h9) rfl dX12_make_134 ?_
                          refine li_iconst hx hb dX12_make_137 ?_
                          refine lv_iload_n hx hb dX12_make_138 rfl (lv_at hl 7 rfl) ?_
                          refine li_if_eq (tgt := 146) hx hb ⟨by decide, by decide⟩ dX12_make_139 (by decide) (fun c139 => ?_) (fun c139 => ?_)
                          · refine lv_iload hx hb dX12_make_146 (lv_at hl 1 rfl) ?_
                            refine li_iast (g := (ug (ug (ρ 28) ((m1 / 100) % 10) 5) 0 (m1 % 10))) (W2 := wM am ty τ (up (up ρ 27 (ug (ug (ug (ρ 27) 0 y57_0) 1 y57_1_0) 2 y57_2_0)) 28 (ug (ug (ug (ρ 28) ((m1 / 100) % 10) 5) 0 (m1 % 10)) 1 (m1 % 10))) ++ cs) hx hb hK hP hD hS 17 0 (aM_17 _ _ _ _ _) rfl (by decide) (by decide) (by decide) rfl dX12_make_148 (fun H locs hP hD hS => ?_)
                            exact eMv hQ hx hb hr hlk hP hD hS (Nat.le_of_ble_eq_true rfl) (Nat.le_of_ble_eq_true rfl) dX12_make_149 (⟨rfl, by first | (exfalso; omega) | (have e1 : (ug (ug (ug (ρ 27) 0 y57_0) 1 y57_1_0) 2 y57_2_0) = mvw (m1 / 1000 % 10) (m1 % 10) (ρ 27) := (by have u1 : (ug (ρ 27) 0 y57_0) 1 = ρ 27 1 := rfl; have u2 : (ug (ug (ρ 27) 0 y57_0) 1 y57_1_0) 2 = ρ 27 2 := rfl; funext i; by_cases i0 : i = 0; (subst i0; show y57_0 = mvw (m1 / 1000 % 10) (m1 % 10) (ρ 27) 0; rw [mvw_0]; split <;> omega); by_cases i1 : i = 1; (subst i1; show y57_1_0 = mvw (m1 / 1000 % 10) (m1 % 10) (ρ 27) 1; rw [mvw_1]; split <;> omega); by_cases i2 : i = 2; (subst i2; show y57_2_0 = mvw (m1 / 1000 % 10) (m1 % 10) (ρ 27) 2; rw [mvw_2]; split <;> omega); (rw [mvw_x i0 i1 i2, ug_n i2, ug_n i1, ug_n i0])); have e2 : (ug (ug (ug (ρ 28) ((m1 / 100) % 10) 5) 0 (m1 % 10)) 1 (m1 % 10)) = (mvq (m1 / 10000) (m1 / 100 % 10) (m1 % 10) (ρ 28)) := (by unfold mvq; by_cases q1 : m1 / 10000 = 1 ∨ m1 / 10000 = 6; (first | exact (if_pos q1).symm | (exfalso; omega)); rw [if_neg q1]; by_cases q2 : m1 / 10000 = 2; (first | exact (if_pos q2).symm | (exfalso; omega)); rw [if_neg q2]; by_cases q3 : m1 / 10000 = 3; (first | (exfalso; omega) | (rw [if_pos q3, hr3 q3])); (first | exact (if_neg q3).symm | (exfalso; omega))); have e3 := congr (congrArg (fun (a b : Int → Int) => wM am ty τ (up (up ρ 27 a) 28 b) ++ cs) e1) e2; exact e3)⟩)
                          · exact absurd c139 (by decide)
                        · exact absurd c123 (by decide)
                  · refine lv_aload_n hx hb dX12_make_90 rfl (lv_at hl 5 rfl) ?_
                    refine va_get (D := G) (ci := 11) (v := .ref (am 17)) (C := RX12) (T := TX12) (N := 52) hx hb hts in_X12 hown hK hP 0 (aM_0 _ _ _ _ _) rfl 28 (by decide) (hts _ q1293) (fun _ h9 => h9) rfl dX12_make_91 ?_
                    refine lv_iload hx hb dX12_make_94 (lv_at hl 2 rfl) ?_
                    refine lv_iload hx hb dX12_make_96 (lv_at hl 1 rfl) ?_
                    refine li_iast (g := (ρ 28)) (W2 := wM am ty τ (up (up ρ 27 (ug (ug (ug (ρ 27) 0 y57_0) 1 y57_1_0) 2 y57_2_0)) 28 (ug (ρ 28) ((m1 / 100) % 10) (m1 % 10))) ++ cs) hx hb hK hP hD hS 17 0 (aM_17 _ _ _ _ _) rfl (by omega) (by omega) (by decide) rfl dX12_make_98 (fun H locs hP hD hS => ?_)
                    refine lv_iload_n hx hb dX12_make_99 rfl (lv_at hl 4 rfl) ?_
                    refine li_iconst hx hb dX12_make_100 ?_
                    refine li_icmp_ne (tgt := 112) hx hb ⟨by omega, by omega⟩ ⟨by decide, by decide⟩ dX12_make_101 (by decide) (fun c101 => ?_) (fun c101 => ?_)
                    · refine lv_iload_n hx hb dX12_make_112 rfl (lv_at hl 4 rfl) ?_
                      refine li_iconst hx hb dX12_make_113 ?_
                      refine li_icmp_ne (tgt := 149) hx hb ⟨by omega, by omega⟩ ⟨by decide, by decide⟩ dX12_make_114 (by decide) (fun c114 => ?_) (fun c114 => ?_)
                      · exact eMv hQ hx hb hr hlk hP hD hS (Nat.le_of_ble_eq_true rfl) (Nat.le_of_ble_eq_true rfl) dX12_make_149 (⟨rfl, by first | (exfalso; omega) | (have e1 : (ug (ug (ug (ρ 27) 0 y57_0) 1 y57_1_0) 2 y57_2_0) = mvw (m1 / 1000 % 10) (m1 % 10) (ρ 27) := (by have u1 : (ug (ρ 27) 0 y57_0) 1 = ρ 27 1 := rfl; have u2 : (ug (ug (ρ 27) 0 y57_0) 1 y57_1_0) 2 = ρ 27 2 := rfl; funext i; by_cases i0 : i = 0; (subst i0; show y57_0 = mvw (m1 / 1000 % 10) (m1 % 10) (ρ 27) 0; rw [mvw_0]; split <;> omega); by_cases i1 : i = 1; (subst i1; show y57_1_0 = mvw (m1 / 1000 % 10) (m1 % 10) (ρ 27) 1; rw [mvw_1]; split <;> omega); by_cases i2 : i = 2; (subst i2; show y57_2_0 = mvw (m1 / 1000 % 10) (m1 % 10) (ρ 27) 2; rw [mvw_2]; split <;> omega); (rw [mvw_x i0 i1 i2, ug_n i2, ug_n i1, ug_n i0])); have e2 : (ug (ρ 28) ((m1 / 100) % 10) (m1 % 10)) = (mvq (m1 / 10000) (m1 / 100 % 10) (m1 % 10) (ρ 28)) := (by unfold mvq; by_cases q1 : m1 / 10000 = 1 ∨ m1 / 10000 = 6; (first | exact (if_pos q1).symm | (exfalso; omega)); rw [if_neg q1]; by_cases q2 : m1 / 10000 = 2; (first | exact (if_pos q2).symm | (exfalso; omega)); rw [if_neg q2]; by_cases q3 : m1 / 10000 = 3; (first | (exfalso; omega) | (rw [if_pos q3, hr3 q3])); (first | exact (if_neg q3).symm | (exfalso; omega))); have e3 := congr (congrArg (fun (a b : Int → Int) => wM am ty τ (up (up ρ 27 a) 28 b) ++ cs) e1) e2; exact e3)⟩)
                      · refine lv_aload_n hx hb dX12_make_117 rfl (lv_at hl 5 rfl) ?_
                        refine va_get (D := G) (ci := 11) (v := .ref (am 17)) (C := RX12) (T := TX12) (N := 52) hx hb hts in_X12 hown hK hP 0 (aM_0 _ _ _ _ _) rfl 28 (by decide) (hts _ q1293) (fun _ h9 => h9) rfl dX12_make_118 ?_
                        refine li_iconst hx hb dX12_make_121 ?_
                        refine lv_iload_n hx hb dX12_make_122 rfl (lv_at hl 7 rfl) ?_
                        refine li_if_eq (tgt := 130) hx hb ⟨by decide, by decide⟩ dX12_make_123 (by decide) (fun c123 => ?_) (fun c123 => ?_)
                        · refine lv_iload hx hb dX12_make_130 (lv_at hl 1 rfl) ?_
                          refine li_iast (g := (ug (ρ 28) ((m1 / 100) % 10) (m1 % 10))) (W2 := wM am ty τ (up (up ρ 27 (ug (ug (ug (ρ 27) 0 y57_0) 1 y57_1_0) 2 y57_2_0)) 28 (ug (ug (ρ 28) ((m1 / 100) % 10) (m1 % 10)) 0 (m1 % 10))) ++ cs) hx hb hK hP hD hS 17 0 (aM_17 _ _ _ _ _) rfl (by decide) (by decide) (by decide) rfl dX12_make_132 (fun H locs hP hD hS => ?_)
                          refine lv_aload_n hx hb dX12_make_133 rfl (lv_at hl 5 rfl) ?_
                          refine va_get (D := G) (ci := 11) (v := .ref (am 17)) (C := RX12) (T := TX12) (N := 52) hx hb hts in_X12 hown hK hP 0 (aM_0 _ _ _ _ _) rfl 28 (by decide) (hts _ q1293) (fun _ h9 => h9) rfl dX12_make_134 ?_
                          refine li_iconst hx hb dX12_make_137 ?_
                          refine lv_iload_n hx hb dX12_make_138 rfl (lv_at hl 7 rfl) ?_
                          refine li_if_eq (tgt := 146) hx hb ⟨by decide, by decide⟩ dX12_make_139 (by decide) (fun c139 => ?_) (fun c139 => ?_)
                          · refine lv_iload hx hb dX12_make_146 (lv_at hl 1 rfl) ?_
                            refine li_iast (g := (ug (ug (ρ 28) ((m1 / 100) % 10) (m1 % 10)) 0 (m1 % 10))) (W2 := wM am ty τ (up (up ρ 27 (ug (ug (ug (ρ 27) 0 y57_0) 1 y57_1_0) 2 y57_2_0)) 28 (ug (ug (ug (ρ 28) ((m1 / 100) % 10) (m1 % 10)) 0 (m1 % 10)) 1 (m1 % 10))) ++ cs) hx hb hK hP hD hS 17 0 (aM_17 _ _ _ _ _) rfl (by decide) (by decide) (by decide) rfl dX12_make_148 (fun H locs hP hD hS => ?_)
                            exact eMv hQ hx hb hr hlk hP hD hS (Nat.le_of_ble_eq_true rfl) (Nat.le_of_ble_eq_true rfl) dX12_make_149 (⟨rfl, by first | (exfalso; omega) | (have e1 : (ug (ug (ug (ρ 27) 0 y57_0) 1 y57_1_0) 2 y57_2_0) = mvw (m1 / 1000 % 10) (m1 % 10) (ρ 27) := (by have u1 : (ug (ρ 27) 0 y57_0) 1 = ρ 27 1 := rfl; have u2 : (ug (ug (ρ 27) 0 y57_0) 1 y57_1_0) 2 = ρ 27 2 := rfl; funext i; by_cases i0 : i = 0; (subst i0; show y57_0 = mvw (m1 / 1000 % 10) (m1 % 10) (ρ 27) 0; rw [mvw_0]; split <;> omega); by_cases i1 : i = 1; (subst i1; show y57_1_0 = mvw (m1 / 1000 % 10) (m1 % 10) (ρ 27) 1; rw [mvw_1]; split <;> omega); by_cases i2 : i = 2; (subst i2; show y57_2_0 = mvw (m1 / 1000 % 10) (m1 % 10) (ρ 27) 2; rw [mvw_2]; split <;> omega); (rw [mvw_x i0 i1 i2, ug_n i2, ug_n i1, ug_n i0])); have e2 : (ug (ug (ug (ρ 28) ((m1 / 100) % 10) (m1 % 10)) 0 (m1 % 10)) 1 (m1 % 10)) = (mvq (m1 / 10000) (m1 / 100 % 10) (m1 % 10) (ρ 28)) := (by unfold mvq; by_cases q1 : m1 / 10000 = 1 ∨ m1 / 10000 = 6; (first | exact (if_pos q1).symm | (exfalso; omega)); rw [if_neg q1]; by_cases q2 : m1 / 10000 = 2; (first | exact (if_pos q2).symm | (exfalso; omega)); rw [if_neg q2]; by_cases q3 : m1 / 10000 = 3; (first | (exfalso; omega) | (rw [if_pos q3, hr3 q3])); (first | exact (if_neg q3).symm | (exfalso; omega))); have e3 := congr (congrArg (fun (a b : Int → Int) => wM am ty τ (up (up ρ 27 a) 28 b) ++ cs) e1) e2; exact e3)⟩)
                          · exact absurd c139 (by decide)
                        · exact absurd c123 (by decide)
                    · refine lv_aload_n hx hb dX12_make_104 rfl (lv_at hl 5 rfl) ?_
                      refine va_get (D := G) (ci := 11) (v := .ref (am 17)) (C := RX12) (T := TX12) (N := 52) hx hb hts in_X12 hown hK hP 0 (aM_0 _ _ _ _ _) rfl 28 (by decide) (hts _ q1293) (fun _ h9 => h9) rfl dX12_make_105 ?_
                      refine lv_iload hx hb dX12_make_108 (lv_at hl 2 rfl) ?_
                      refine li_iconst hx hb dX12_make_110 ?_
                      refine li_iast (g := (ug (ρ 28) ((m1 / 100) % 10) (m1 % 10))) (W2 := wM am ty τ (up (up ρ 27 (ug (ug (ug (ρ 27) 0 y57_0) 1 y57_1_0) 2 y57_2_0)) 28 (ug (ug (ρ 28) ((m1 / 100) % 10) (m1 % 10)) ((m1 / 100) % 10) 5)) ++ cs) hx hb hK hP hD hS 17 0 (aM_17 _ _ _ _ _) rfl (by omega) (by omega) (by decide) rfl dX12_make_111 (fun H locs hP hD hS => ?_)
                      refine lv_iload_n hx hb dX12_make_112 rfl (lv_at hl 4 rfl) ?_
                      refine li_iconst hx hb dX12_make_113 ?_
                      refine li_icmp_ne (tgt := 149) hx hb ⟨by omega, by omega⟩ ⟨by decide, by decide⟩ dX12_make_114 (by decide) (fun c114 => ?_) (fun c114 => ?_)
                      · exact eMv hQ hx hb hr hlk hP hD hS (Nat.le_of_ble_eq_true rfl) (Nat.le_of_ble_eq_true rfl) dX12_make_149 (⟨rfl, by first | (exfalso; omega) | (have e1 : (ug (ug (ug (ρ 27) 0 y57_0) 1 y57_1_0) 2 y57_2_0) = mvw (m1 / 1000 % 10) (m1 % 10) (ρ 27) := (by have u1 : (ug (ρ 27) 0 y57_0) 1 = ρ 27 1 := rfl; have u2 : (ug (ug (ρ 27) 0 y57_0) 1 y57_1_0) 2 = ρ 27 2 := rfl; funext i; by_cases i0 : i = 0; (subst i0; show y57_0 = mvw (m1 / 1000 % 10) (m1 % 10) (ρ 27) 0; rw [mvw_0]; split <;> omega); by_cases i1 : i = 1; (subst i1; show y57_1_0 = mvw (m1 / 1000 % 10) (m1 % 10) (ρ 27) 1; rw [mvw_1]; split <;> omega); by_cases i2 : i = 2; (subst i2; show y57_2_0 = mvw (m1 / 1000 % 10) (m1 % 10) (ρ 27) 2; rw [mvw_2]; split <;> omega); (rw [mvw_x i0 i1 i2, ug_n i2, ug_n i1, ug_n i0])); have e2 : (ug (ug (ρ 28) ((m1 / 100) % 10) (m1 % 10)) ((m1 / 100) % 10) 5) = (mvq (m1 / 10000) (m1 / 100 % 10) (m1 % 10) (ρ 28)) := (by unfold mvq; by_cases q1 : m1 / 10000 = 1 ∨ m1 / 10000 = 6; (first | exact (if_pos q1).symm | (exfalso; omega)); rw [if_neg q1]; by_cases q2 : m1 / 10000 = 2; (first | exact (if_pos q2).symm | (exfalso; omega)); rw [if_neg q2]; by_cases q3 : m1 / 10000 = 3; (first | (exfalso; omega) | (rw [if_pos q3, hr3 q3])); (first | exact (if_neg q3).symm | (exfalso; omega))); have e3 := congr (congrArg (fun (a b : Int → Int) => wM am ty τ (up (up ρ 27 a) 28 b) ++ cs) e1) e2; exact e3)⟩)
                      · refine lv_aload_n hx hb dX12_make_117 rfl (lv_at hl 5 rfl) ?_
                        refine va_get (D := G) (ci := 11) (v := .ref (am 17)) (C := RX12) (T := TX12) (N := 52) hx hb hts in_X12 hown hK hP 0 (aM_0 _ _ _ _ _) rfl 28 (by decide) (hts _ q1293) (fun _ h9 => h9) rfl dX12_make_118 ?_
                        refine li_iconst hx hb dX12_make_121 ?_
                        refine lv_iload_n hx hb dX12_make_122 rfl (lv_at hl 7 rfl) ?_
                        refine li_if_eq (tgt := 130) hx hb ⟨by decide, by decide⟩ dX12_make_123 (by decide) (fun c123 => ?_) (fun c123 => ?_)
                        · refine lv_iload hx hb dX12_make_130 (lv_at hl 1 rfl) ?_
                          refine li_iast (g := (ug (ug (ρ 28) ((m1 / 100) % 10) (m1 % 10)) ((m1 / 100) % 10) 5)) (W2 := wM am ty τ (up (up ρ 27 (ug (ug (ug (ρ 27) 0 y57_0) 1 y57_1_0) 2 y57_2_0)) 28 (ug (ug (ug (ρ 28) ((m1 / 100) % 10) (m1 % 10)) ((m1 / 100) % 10) 5) 0 (m1 % 10))) ++ cs) hx hb hK hP hD hS 17 0 (aM_17 _ _ _ _ _) rfl (by decide) (by decide) (by decide) rfl dX12_make_132 (fun H locs hP hD hS => ?_)
                          refine lv_aload_n hx hb dX12_make_133 rfl (lv_at hl 5 rfl) ?_
                          refine va_get (D := G) (ci := 11) (v := .ref (am 17)) (C := RX12) (T := TX12) (N := 52) hx hb hts in_X12 hown hK hP 0 (aM_0 _ _ _ _ _) rfl 28 (by decide) (hts _ q1293) (fun _ h9 => h9) rfl dX12_make_134 ?_
                          refine li_iconst hx hb dX12_make_137 ?_
                          refine lv_iload_n hx hb dX12_make_138 rfl (lv_at hl 7 rfl) ?_
                          refine li_if_eq (tgt := 146) hx hb ⟨by decide, by decide⟩ dX12_make_139 (by decide) (fun c139 => ?_) (fun c139 => ?_)
                          · refine lv_iload hx hb dX12_make_146 (lv_at hl 1 rfl) ?_
                            refine li_iast (g := (ug (ug (ug (ρ 28) ((m1 / 100) % 10) (m1 % 10)) ((m1 / 100) % 10) 5) 0 (m1 % 10))) (W2 := wM am ty τ (up (up ρ 27 (ug (ug (ug (ρ 27) 0 y57_0) 1 y57_1_0) 2 y57_2_0)) 28 (ug (ug (ug (ug (ρ 28) ((m1 / 100) % 10) (m1 % 10)) ((m1 / 100) % 10) 5) 0 (m1 % 10)) 1 (m1 % 10))) ++ cs) hx hb hK hP hD hS 17 0 (aM_17 _ _ _ _ _) rfl (by decide) (by decide) (by decide) rfl dX12_make_148 (fun H locs hP hD hS => ?_)
                            exact eMv hQ hx hb hr hlk hP hD hS (Nat.le_of_ble_eq_true rfl) (Nat.le_of_ble_eq_true rfl) dX12_make_149 (⟨rfl, by first | (exfalso; omega) | (have e1 : (ug (ug (ug (ρ 27) 0 y57_0) 1 y57_1_0) 2 y57_2_0) = mvw (m1 / 1000 % 10) (m1 % 10) (ρ 27) := (by have u1 : (ug (ρ 27) 0 y57_0) 1 = ρ 27 1 := rfl; have u2 : (ug (ug (ρ 27) 0 y57_0) 1 y57_1_0) 2 = ρ 27 2 := rfl; funext i; by_cases i0 : i = 0; (subst i0; show y57_0 = mvw (m1 / 1000 % 10) (m1 % 10) (ρ 27) 0; rw [mvw_0]; split <;> omega); by_cases i1 : i = 1; (subst i1; show y57_1_0 = mvw (m1 / 1000 % 10) (m1 % 10) (ρ 27) 1; rw [mvw_1]; split <;> omega); by_cases i2 : i = 2; (subst i2; show y57_2_0 = mvw (m1 / 1000 % 10) (m1 % 10) (ρ 27) 2; rw [mvw_2]; split <;> omega); (rw [mvw_x i0 i1 i2, ug_n i2, ug_n i1, ug_n i0])); have e2 : (ug (ug (ug (ug (ρ 28) ((m1 / 100) % 10) (m1 % 10)) ((m1 / 100) % 10) 5) 0 (m1 % 10)) 1 (m1 % 10)) = (mvq (m1 / 10000) (m1 / 100 % 10) (m1 % 10) (ρ 28)) := (by unfold mvq; by_cases q1 : m1 / 10000 = 1 ∨ m1 / 10000 = 6; (first | exact (if_pos q1).symm | (exfalso; omega)); rw [if_neg q1]; by_cases q2 : m1 / 10000 = 2; (first | exact (if_pos q2).symm | (exfalso; omega)); rw [if_neg q2]; by_cases q3 : m1 / 10000 = 3; (first | (exfalso; omega) | (rw [if_pos q3, hr3 q3])); (first | exact (if_neg q3).symm | (exfalso; omega))); have e3 := congr (congrArg (fun (a b : Int → Int) => wM am ty τ (up (up ρ 27 a) 28 b) ++ cs) e1) e2; exact e3)⟩)
                          · exact absurd c139 (by decide)
                        · exact absurd c123 (by decide)
              · exfalso
                omega
            refine li_icmp_ne (tgt := 65) hx hb ⟨by omega, by omega⟩ ⟨by decide, by decide⟩ dX12_make_57 (by decide) (fun c57 => ?_) (fun c57 => ?_)
            · refine lv_aload_n hx hb dX12_make_65 rfl (lv_at hl 5 rfl) ?_
              refine va_get (D := G) (ci := 11) (v := .ref (am 16)) (C := RX12) (T := TX12) (N := 52) hx hb hts in_X12 hown hK hP 0 (aM_0 _ _ _ _ _) rfl 27 (by decide) (hts _ q1292) (fun _ h9 => h9) rfl dX12_make_66 ?_
              refine lv_iload hx hb dX12_make_69 (lv_at hl 0 rfl) ?_
              refine li_iald (g := (ug (ug (ρ 27) 0 y57_0) 1 y57_1_0)) hx hb hK hP 16 0 (aM_16 _ _ _ _ _) rfl (by decide) (by decide) (by decide) dX12_make_71 ?_
              exact J57_2 _ (.inl (⟨c57, rfl⟩)) H locs hP hD hS ls (lv_sub hl [0, 1, 2, 3, 4, 5, 6, 7] rfl)
            · refine lv_iload hx hb dX12_make_60 (lv_at hl 1 rfl) ?_
              refine lv_goto (tgt := 72) hx hb dX12_make_62 (by decide) ?_
              exact J57_2 _ (.inr (⟨c57, rfl⟩)) H locs hP hD hS ls (lv_sub hl [0, 1, 2, 3, 4, 5, 6, 7] rfl)
        refine li_icmp_ne (tgt := 65) hx hb ⟨by omega, by omega⟩ ⟨by decide, by decide⟩ dX12_make_57 (by decide) (fun c57 => ?_) (fun c57 => ?_)
        · refine lv_aload_n hx hb dX12_make_65 rfl (lv_at hl 5 rfl) ?_
          refine va_get (D := G) (ci := 11) (v := .ref (am 16)) (C := RX12) (T := TX12) (N := 52) hx hb hts in_X12 hown hK hP 0 (aM_0 _ _ _ _ _) rfl 27 (by decide) (hts _ q1292) (fun _ h9 => h9) rfl dX12_make_66 ?_
          refine lv_iload hx hb dX12_make_69 (lv_at hl 0 rfl) ?_
          refine li_iald (g := (ug (ρ 27) 0 y57_0)) hx hb hK hP 16 0 (aM_16 _ _ _ _ _) rfl (by decide) (by decide) (by decide) dX12_make_71 ?_
          exact J57_1 _ (.inl (⟨c57, rfl⟩)) H locs hP hD hS ls (lv_sub hl [0, 1, 2, 3, 4, 5, 6, 7] rfl)
        · refine lv_iload hx hb dX12_make_60 (lv_at hl 1 rfl) ?_
          refine lv_goto (tgt := 72) hx hb dX12_make_62 (by decide) ?_
          exact J57_1 _ (.inr (⟨c57, rfl⟩)) H locs hP hD hS ls (lv_sub hl [0, 1, 2, 3, 4, 5, 6, 7] rfl)
    refine li_icmp_ne (tgt := 65) hx hb ⟨by omega, by omega⟩ ⟨by decide, by decide⟩ dX12_make_57 (by decide) (fun c57 => ?_) (fun c57 => ?_)
    · refine lv_aload_n hx hb dX12_make_65 rfl (lv_at hl 5 rfl) ?_
      refine va_get (D := G) (ci := 11) (v := .ref (am 16)) (C := RX12) (T := TX12) (N := 52) hx hb hts in_X12 hown hK hP 0 (aM_0 _ _ _ _ _) rfl 27 (by decide) (hts _ q1292) (fun _ h9 => h9) rfl dX12_make_66 ?_
      refine lv_iload hx hb dX12_make_69 (lv_at hl 0 rfl) ?_
      refine li_iald (g := (ρ 27)) hx hb hK hP 16 0 (aM_16 _ _ _ _ _) rfl (by decide) (by decide) (by decide) dX12_make_71 ?_
      have r72 := hs0 0
      exact J57 _ (.inl (⟨c57, rfl⟩)) H locs hP hD hS ls (lv_sub hl [0, 1, 2, 3, 4, 5, 6, 7] rfl)
    · refine lv_iload hx hb dX12_make_60 (lv_at hl 1 rfl) ?_
      refine lv_goto (tgt := 72) hx hb dX12_make_62 (by decide) ?_
      exact J57 _ (.inr (⟨c57, rfl⟩)) H locs hP hD hS ls (lv_sub hl [0, 1, 2, 3, 4, 5, 6, 7] rfl)
set_option maxHeartbeats 4000000 in
theorem m_makeM1 (l : Launch) (G : va_G) (am : Nat → Nat) (ty : Nat → ClassId) (τ ρ : mem) (cs : va_W) (m1 : Int) (F : mem) (hF : okF F) (hSm : Sim F τ) (hSt : wfS (ρ 27) (ρ 28)) (hT : isT m1) (hset : m1 / 1000 % 10 < p2 (F 9 0)) (hr3 : m1 / 10000 = 3 → m1 / 100 % 10 = 0) (h3 : m1 / 10000 = 3) : cM l yX12_make (ws_ yX12_make cX12_make 8 none) (rm4 0 0 0 0) G ty (wM am ty τ ρ ++ cs) [.ref (am 0), .int (ii m1), .int (ii 1)] 0 0 (fun r W' => r = none ∧ W' = wM am ty τ (up (up ρ 27 (mvw (m1 / 1000 % 10) (m1 % 10) (ρ 27))) 28 ((ug (ug (ρ 28) 0 5) 1 5))) ++ cs) := by
  refine cM.of (by decide) (Nat.le_of_ble_eq_true rfl) ?_
  intro p e s m args below meth c A Q H locs hQ hx hb hr hml hown hlk hname hts hK hP hD hS hA hX ls hl
  have hl : lv_has ls 8 [(0, .ref (am 0)), (1, .int (ii m1)), (2, .int (ii 1))] := hl
  obtain ⟨hW, hWS, hlg⟩ := id hF
  obtain ⟨hw0, hw1, hw2, hw3, hw4, hw5, h8a, h8b, h9a, h9b, h10a, h10b⟩ := id hW
  obtain ⟨mL, mP, mR, mC, mK, mM, mA, mB, mD⟩ := id hSm
  obtain ⟨hs0, hs1⟩ := id hSt
  have hd := isT_m hT
  have hm0 := hT.1
  have hm1 := hT.2.1
  have hp2 : p2 (F 9 0) = if F 9 0 = 0 then 1 else if F 9 0 = 1 then 2 else if F 9 0 = 2 then 4 else 8 := rfl
  refine lv_iload_n hx hb dX12_make_0 rfl (lv_at hl 1 rfl) ?_
  refine li_sipush hx hb dX12_make_1 (by decide) ?_
  refine li_div hx hb (by omega) (by omega) (by omega) (by omega) dX12_make_4 ?_
  refine lv_istore_n (lv' := [(3, .int (ii (m1 / 10000))), (0, .ref (am 0)), (1, .int (ii m1)), (2, .int (ii 1))]) hx hb dX12_make_5 rfl hl (by decide) rfl (fun ls hl => ?_)
  refine lv_iload_n hx hb dX12_make_6 rfl (lv_at hl 2 rfl) ?_
  refine li_sipush hx hb dX12_make_7 (by decide) ?_
  refine li_div hx hb (by omega) (by omega) (by omega) (by omega) dX12_make_10 ?_
  refine li_bipush hx hb dX12_make_11 (by decide) ?_
  refine li_rem hx hb (by omega) (by omega) (by omega) (by omega) dX12_make_13 ?_
  refine lv_istore (lv' := [(4, .int (ii ((m1 / 1000) % 10))), (3, .int (ii (m1 / 10000))), (0, .ref (am 0)), (1, .int (ii m1)), (2, .int (ii 1))]) hx hb dX12_make_14 hl (by decide) rfl (fun ls hl => ?_)
  refine lv_iload_n hx hb dX12_make_16 rfl (lv_at hl 3 rfl) ?_
  refine li_bipush hx hb dX12_make_17 (by decide) ?_
  refine li_div hx hb (by omega) (by omega) (by omega) (by omega) dX12_make_19 ?_
  refine li_bipush hx hb dX12_make_20 (by decide) ?_
  refine li_rem hx hb (by omega) (by omega) (by omega) (by omega) dX12_make_22 ?_
  refine lv_istore (lv' := [(5, .int (ii ((m1 / 100) % 10))), (4, .int (ii ((m1 / 1000) % 10))), (3, .int (ii (m1 / 10000))), (0, .ref (am 0)), (1, .int (ii m1)), (2, .int (ii 1))]) hx hb dX12_make_23 hl (by decide) rfl (fun ls hl => ?_)
  refine lv_iload_n hx hb dX12_make_25 rfl (lv_at hl 4 rfl) ?_
  refine li_bipush hx hb dX12_make_26 (by decide) ?_
  refine li_rem hx hb (by omega) (by omega) (by omega) (by omega) dX12_make_28 ?_
  refine lv_istore (lv' := [(6, .int (ii (m1 % 10))), (5, .int (ii ((m1 / 100) % 10))), (4, .int (ii ((m1 / 1000) % 10))), (3, .int (ii (m1 / 10000))), (0, .ref (am 0)), (1, .int (ii m1)), (2, .int (ii 1))]) hx hb dX12_make_29 hl (by decide) rfl (fun ls hl => ?_)
  refine li_iconst hx hb dX12_make_31 ?_
  refine lv_istore (lv' := [(7, .int (ii 0)), (6, .int (ii (m1 % 10))), (5, .int (ii ((m1 / 100) % 10))), (4, .int (ii ((m1 / 1000) % 10))), (3, .int (ii (m1 / 10000))), (0, .ref (am 0)), (1, .int (ii m1)), (2, .int (ii 1))]) hx hb dX12_make_32 hl (by decide) rfl (fun ls hl => ?_)
  refine lv_iload hx hb dX12_make_34 (lv_at hl 0 rfl) ?_
  refine lv_aload_n hx hb dX12_make_36 rfl (lv_at hl 5 rfl) ?_
  refine va_get (D := G) (ci := 11) (v := .int (ii (τ 5 0))) (C := RX12) (T := TX12) (N := 52) hx hb hts in_X12 hown hK hP 0 (aM_0 _ _ _ _ _) rfl 5 (by decide) (hts _ q1270) (fun _ h9 => h9) rfl dX12_make_37 ?_
  refine li_icmp_ge (tgt := 79) hx hb ⟨by decide, by decide⟩ ⟨by omega, by omega⟩ dX12_make_40 (by decide) (fun c40 => ?_) (fun c40 => ?_)
  · refine lv_iload_n hx hb dX12_make_79 rfl (lv_at hl 4 rfl) ?_
    refine li_iconst hx hb dX12_make_80 ?_
    refine li_icmp_eq (tgt := 90) hx hb ⟨by omega, by omega⟩ ⟨by decide, by decide⟩ dX12_make_81 (by decide) (fun c81 => ?_) (fun c81 => ?_)
    · refine lv_aload_n hx hb dX12_make_90 rfl (lv_at hl 5 rfl) ?_
      refine va_get (D := G) (ci := 11) (v := .ref (am 17)) (C := RX12) (T := TX12) (N := 52) hx hb hts in_X12 hown hK hP 0 (aM_0 _ _ _ _ _) rfl 28 (by decide) (hts _ q1293) (fun _ h9 => h9) rfl dX12_make_91 ?_
      refine lv_iload hx hb dX12_make_94 (lv_at hl 2 rfl) ?_
      refine lv_iload hx hb dX12_make_96 (lv_at hl 1 rfl) ?_
      refine li_iast (g := (ρ 28)) (W2 := wM am ty τ (up ρ 28 (ug (ρ 28) ((m1 / 100) % 10) (m1 % 10))) ++ cs) hx hb hK hP hD hS 17 0 (aM_17 _ _ _ _ _) rfl (by omega) (by omega) (by decide) rfl dX12_make_98 (fun H locs hP hD hS => ?_)
      refine lv_iload_n hx hb dX12_make_99 rfl (lv_at hl 4 rfl) ?_
      refine li_iconst hx hb dX12_make_100 ?_
      refine li_icmp_ne (tgt := 112) hx hb ⟨by omega, by omega⟩ ⟨by decide, by decide⟩ dX12_make_101 (by decide) (fun c101 => ?_) (fun c101 => ?_)
      · refine lv_iload_n hx hb dX12_make_112 rfl (lv_at hl 4 rfl) ?_
        refine li_iconst hx hb dX12_make_113 ?_
        refine li_icmp_ne (tgt := 149) hx hb ⟨by omega, by omega⟩ ⟨by decide, by decide⟩ dX12_make_114 (by decide) (fun c114 => ?_) (fun c114 => ?_)
        · exact eMv hQ hx hb hr hlk hP hD hS (Nat.le_of_ble_eq_true rfl) (Nat.le_of_ble_eq_true rfl) dX12_make_149 (⟨rfl, by first | (exfalso; omega) | (have e1 : (ρ 27) = mvw (m1 / 1000 % 10) (m1 % 10) (ρ 27) := (by funext i; by_cases i0 : i = 0; (subst i0; show ρ 27 0 = mvw (m1 / 1000 % 10) (m1 % 10) (ρ 27) 0; rw [mvw_0]; split <;> omega); by_cases i1 : i = 1; (subst i1; show ρ 27 1 = mvw (m1 / 1000 % 10) (m1 % 10) (ρ 27) 1; rw [mvw_1]; split <;> omega); by_cases i2 : i = 2; (subst i2; show ρ 27 2 = mvw (m1 / 1000 % 10) (m1 % 10) (ρ 27) 2; rw [mvw_2]; split <;> omega); (rw [mvw_x i0 i1 i2])); have e3 := congrArg (fun (a : Int → Int) => wM am ty τ (up (up ρ 27 a) 28 (ug (ug (ρ 28) 0 5) 1 5)) ++ cs) e1; exact e3)⟩)
        · refine lv_aload_n hx hb dX12_make_117 rfl (lv_at hl 5 rfl) ?_
          refine va_get (D := G) (ci := 11) (v := .ref (am 17)) (C := RX12) (T := TX12) (N := 52) hx hb hts in_X12 hown hK hP 0 (aM_0 _ _ _ _ _) rfl 28 (by decide) (hts _ q1293) (fun _ h9 => h9) rfl dX12_make_118 ?_
          refine li_iconst hx hb dX12_make_121 ?_
          refine lv_iload_n hx hb dX12_make_122 rfl (lv_at hl 7 rfl) ?_
          refine li_if_eq (tgt := 130) hx hb ⟨by decide, by decide⟩ dX12_make_123 (by decide) (fun c123 => ?_) (fun c123 => ?_)
          · exact absurd c123 (by decide)
          · refine li_iconst hx hb dX12_make_126 ?_
            refine lv_goto (tgt := 132) hx hb dX12_make_127 (by decide) ?_
            refine li_iast (g := (ug (ρ 28) ((m1 / 100) % 10) (m1 % 10))) (W2 := wM am ty τ (up ρ 28 (ug (ug (ρ 28) ((m1 / 100) % 10) (m1 % 10)) 0 5)) ++ cs) hx hb hK hP hD hS 17 0 (aM_17 _ _ _ _ _) rfl (by decide) (by decide) (by decide) rfl dX12_make_132 (fun H locs hP hD hS => ?_)
            refine lv_aload_n hx hb dX12_make_133 rfl (lv_at hl 5 rfl) ?_
            refine va_get (D := G) (ci := 11) (v := .ref (am 17)) (C := RX12) (T := TX12) (N := 52) hx hb hts in_X12 hown hK hP 0 (aM_0 _ _ _ _ _) rfl 28 (by decide) (hts _ q1293) (fun _ h9 => h9) rfl dX12_make_134 ?_
            refine li_iconst hx hb dX12_make_137 ?_
            refine lv_iload_n hx hb dX12_make_138 rfl (lv_at hl 7 rfl) ?_
            refine li_if_eq (tgt := 146) hx hb ⟨by decide, by decide⟩ dX12_make_139 (by decide) (fun c139 => ?_) (fun c139 => ?_)
            · exact absurd c139 (by decide)
            · refine li_iconst hx hb dX12_make_142 ?_
              refine lv_goto (tgt := 148) hx hb dX12_make_143 (by decide) ?_
              refine li_iast (g := (ug (ug (ρ 28) ((m1 / 100) % 10) (m1 % 10)) 0 5)) (W2 := wM am ty τ (up ρ 28 (ug (ug (ug (ρ 28) ((m1 / 100) % 10) (m1 % 10)) 0 5) 1 5)) ++ cs) hx hb hK hP hD hS 17 0 (aM_17 _ _ _ _ _) rfl (by decide) (by decide) (by decide) rfl dX12_make_148 (fun H locs hP hD hS => ?_)
              exact eMv hQ hx hb hr hlk hP hD hS (Nat.le_of_ble_eq_true rfl) (Nat.le_of_ble_eq_true rfl) dX12_make_149 (⟨rfl, by first | (exfalso; omega) | (have e1 : (ρ 27) = mvw (m1 / 1000 % 10) (m1 % 10) (ρ 27) := (by funext i; by_cases i0 : i = 0; (subst i0; show ρ 27 0 = mvw (m1 / 1000 % 10) (m1 % 10) (ρ 27) 0; rw [mvw_0]; split <;> omega); by_cases i1 : i = 1; (subst i1; show ρ 27 1 = mvw (m1 / 1000 % 10) (m1 % 10) (ρ 27) 1; rw [mvw_1]; split <;> omega); by_cases i2 : i = 2; (subst i2; show ρ 27 2 = mvw (m1 / 1000 % 10) (m1 % 10) (ρ 27) 2; rw [mvw_2]; split <;> omega); (rw [mvw_x i0 i1 i2])); have e3 := congrArg (fun (a : Int → Int) => wM am ty τ (up (up ρ 27 a) 28 (ug (ug (ρ 28) 0 5) 1 5)) ++ cs) e1; exact e3)⟩)
      · refine lv_aload_n hx hb dX12_make_104 rfl (lv_at hl 5 rfl) ?_
        refine va_get (D := G) (ci := 11) (v := .ref (am 17)) (C := RX12) (T := TX12) (N := 52) hx hb hts in_X12 hown hK hP 0 (aM_0 _ _ _ _ _) rfl 28 (by decide) (hts _ q1293) (fun _ h9 => h9) rfl dX12_make_105 ?_
        refine lv_iload hx hb dX12_make_108 (lv_at hl 2 rfl) ?_
        refine li_iconst hx hb dX12_make_110 ?_
        refine li_iast (g := (ug (ρ 28) ((m1 / 100) % 10) (m1 % 10))) (W2 := wM am ty τ (up ρ 28 (ug (ug (ρ 28) ((m1 / 100) % 10) (m1 % 10)) ((m1 / 100) % 10) 5)) ++ cs) hx hb hK hP hD hS 17 0 (aM_17 _ _ _ _ _) rfl (by omega) (by omega) (by decide) rfl dX12_make_111 (fun H locs hP hD hS => ?_)
        refine lv_iload_n hx hb dX12_make_112 rfl (lv_at hl 4 rfl) ?_
        refine li_iconst hx hb dX12_make_113 ?_
        refine li_icmp_ne (tgt := 149) hx hb ⟨by omega, by omega⟩ ⟨by decide, by decide⟩ dX12_make_114 (by decide) (fun c114 => ?_) (fun c114 => ?_)
        · exact eMv hQ hx hb hr hlk hP hD hS (Nat.le_of_ble_eq_true rfl) (Nat.le_of_ble_eq_true rfl) dX12_make_149 (⟨rfl, by first | (exfalso; omega) | (have e1 : (ρ 27) = mvw (m1 / 1000 % 10) (m1 % 10) (ρ 27) := (by funext i; by_cases i0 : i = 0; (subst i0; show ρ 27 0 = mvw (m1 / 1000 % 10) (m1 % 10) (ρ 27) 0; rw [mvw_0]; split <;> omega); by_cases i1 : i = 1; (subst i1; show ρ 27 1 = mvw (m1 / 1000 % 10) (m1 % 10) (ρ 27) 1; rw [mvw_1]; split <;> omega); by_cases i2 : i = 2; (subst i2; show ρ 27 2 = mvw (m1 / 1000 % 10) (m1 % 10) (ρ 27) 2; rw [mvw_2]; split <;> omega); (rw [mvw_x i0 i1 i2])); have e3 := congrArg (fun (a : Int → Int) => wM am ty τ (up (up ρ 27 a) 28 (ug (ug (ρ 28) 0 5) 1 5)) ++ cs) e1; exact e3)⟩)
        · refine lv_aload_n hx hb dX12_make_117 rfl (lv_at hl 5 rfl) ?_
          refine va_get (D := G) (ci := 11) (v := .ref (am 17)) (C := RX12) (T := TX12) (N := 52) hx hb hts in_X12 hown hK hP 0 (aM_0 _ _ _ _ _) rfl 28 (by decide) (hts _ q1293) (fun _ h9 => h9) rfl dX12_make_118 ?_
          refine li_iconst hx hb dX12_make_121 ?_
          refine lv_iload_n hx hb dX12_make_122 rfl (lv_at hl 7 rfl) ?_
          refine li_if_eq (tgt := 130) hx hb ⟨by decide, by decide⟩ dX12_make_123 (by decide) (fun c123 => ?_) (fun c123 => ?_)
          · exact absurd c123 (by decide)
          · refine li_iconst hx hb dX12_make_126 ?_
            refine lv_goto (tgt := 132) hx hb dX12_make_127 (by decide) ?_
            refine li_iast (g := (ug (ug (ρ 28) ((m1 / 100) % 10) (m1 % 10)) ((m1 / 100) % 10) 5)) (W2 := wM am ty τ (up ρ 28 (ug (ug (ug (ρ 28) ((m1 / 100) % 10) (m1 % 10)) ((m1 / 100) % 10) 5) 0 5)) ++ cs) hx hb hK hP hD hS 17 0 (aM_17 _ _ _ _ _) rfl (by decide) (by decide) (by decide) rfl dX12_make_132 (fun H locs hP hD hS => ?_)
            refine lv_aload_n hx hb dX12_make_133 rfl (lv_at hl 5 rfl) ?_
            refine va_get (D := G) (ci := 11) (v := .ref (am 17)) (C := RX12) (T := TX12) (N := 52) hx hb hts in_X12 hown hK hP 0 (aM_0 _ _ _ _ _) rfl 28 (by decide) (hts _ q1293) (fun _ h9 => h9) rfl dX12_make_134 ?_
            refine li_iconst hx hb dX12_make_137 ?_
            refine lv_iload_n hx hb dX12_make_138 rfl (lv_at hl 7 rfl) ?_
            refine li_if_eq (tgt := 146) hx hb ⟨by decide, by decide⟩ dX12_make_139 (by decide) (fun c139 => ?_) (fun c139 => ?_)
            · exact absurd c139 (by decide)
            · refine li_iconst hx hb dX12_make_142 ?_
              refine lv_goto (tgt := 148) hx hb dX12_make_143 (by decide) ?_
              refine li_iast (g := (ug (ug (ug (ρ 28) ((m1 / 100) % 10) (m1 % 10)) ((m1 / 100) % 10) 5) 0 5)) (W2 := wM am ty τ (up ρ 28 (ug (ug (ug (ug (ρ 28) ((m1 / 100) % 10) (m1 % 10)) ((m1 / 100) % 10) 5) 0 5) 1 5)) ++ cs) hx hb hK hP hD hS 17 0 (aM_17 _ _ _ _ _) rfl (by decide) (by decide) (by decide) rfl dX12_make_148 (fun H locs hP hD hS => ?_)
              exact eMv hQ hx hb hr hlk hP hD hS (Nat.le_of_ble_eq_true rfl) (Nat.le_of_ble_eq_true rfl) dX12_make_149 (⟨rfl, by first | (exfalso; omega) | (have e1 : (ρ 27) = mvw (m1 / 1000 % 10) (m1 % 10) (ρ 27) := (by funext i; by_cases i0 : i = 0; (subst i0; show ρ 27 0 = mvw (m1 / 1000 % 10) (m1 % 10) (ρ 27) 0; rw [mvw_0]; split <;> omega); by_cases i1 : i = 1; (subst i1; show ρ 27 1 = mvw (m1 / 1000 % 10) (m1 % 10) (ρ 27) 1; rw [mvw_1]; split <;> omega); by_cases i2 : i = 2; (subst i2; show ρ 27 2 = mvw (m1 / 1000 % 10) (m1 % 10) (ρ 27) 2; rw [mvw_2]; split <;> omega); (rw [mvw_x i0 i1 i2])); have e3 := congrArg (fun (a : Int → Int) => wM am ty τ (up (up ρ 27 a) 28 (ug (ug (ρ 28) 0 5) 1 5)) ++ cs) e1; exact e3)⟩)
    · refine lv_iload_n hx hb dX12_make_84 rfl (lv_at hl 4 rfl) ?_
      refine li_bipush hx hb dX12_make_85 (by decide) ?_
      refine li_icmp_ne (tgt := 99) hx hb ⟨by omega, by omega⟩ ⟨by decide, by decide⟩ dX12_make_87 (by decide) (fun c87 => ?_) (fun c87 => ?_)
      · refine lv_iload_n hx hb dX12_make_99 rfl (lv_at hl 4 rfl) ?_
        refine li_iconst hx hb dX12_make_100 ?_
        refine li_icmp_ne (tgt := 112) hx hb ⟨by omega, by omega⟩ ⟨by decide, by decide⟩ dX12_make_101 (by decide) (fun c101 => ?_) (fun c101 => ?_)
        · refine lv_iload_n hx hb dX12_make_112 rfl (lv_at hl 4 rfl) ?_
          refine li_iconst hx hb dX12_make_113 ?_
          refine li_icmp_ne (tgt := 149) hx hb ⟨by omega, by omega⟩ ⟨by decide, by decide⟩ dX12_make_114 (by decide) (fun c114 => ?_) (fun c114 => ?_)
          · exact eMv hQ hx hb hr hlk hP hD hS (Nat.le_of_ble_eq_true rfl) (Nat.le_of_ble_eq_true rfl) dX12_make_149 (⟨rfl, by first | (exfalso; omega) | (have e1 : (ρ 27) = mvw (m1 / 1000 % 10) (m1 % 10) (ρ 27) := (by funext i; by_cases i0 : i = 0; (subst i0; show ρ 27 0 = mvw (m1 / 1000 % 10) (m1 % 10) (ρ 27) 0; rw [mvw_0]; split <;> omega); by_cases i1 : i = 1; (subst i1; show ρ 27 1 = mvw (m1 / 1000 % 10) (m1 % 10) (ρ 27) 1; rw [mvw_1]; split <;> omega); by_cases i2 : i = 2; (subst i2; show ρ 27 2 = mvw (m1 / 1000 % 10) (m1 % 10) (ρ 27) 2; rw [mvw_2]; split <;> omega); (rw [mvw_x i0 i1 i2])); have e3 := congrArg (fun (a : Int → Int) => wM am ty τ (up (up ρ 27 a) 28 (ug (ug (ρ 28) 0 5) 1 5)) ++ cs) e1; exact e3)⟩)
          · refine lv_aload_n hx hb dX12_make_117 rfl (lv_at hl 5 rfl) ?_
            refine va_get (D := G) (ci := 11) (v := .ref (am 17)) (C := RX12) (T := TX12) (N := 52) hx hb hts in_X12 hown hK hP 0 (aM_0 _ _ _ _ _) rfl 28 (by decide) (hts _ q1293) (fun _ h9 => h9) rfl dX12_make_118 ?_
            refine li_iconst hx hb dX12_make_121 ?_
            refine lv_iload_n hx hb dX12_make_122 rfl (lv_at hl 7 rfl) ?_
            refine li_if_eq (tgt := 130) hx hb ⟨by decide, by decide⟩ dX12_make_123 (by decide) (fun c123 => ?_) (fun c123 => ?_)
            · exact absurd c123 (by decide)
            · refine li_iconst hx hb dX12_make_126 ?_
              refine lv_goto (tgt := 132) hx hb dX12_make_127 (by decide) ?_
              refine li_iast (g := (ρ 28)) (W2 := wM am ty τ (up ρ 28 (ug (ρ 28) 0 5)) ++ cs) hx hb hK hP hD hS 17 0 (aM_17 _ _ _ _ _) rfl (by decide) (by decide) (by decide) rfl dX12_make_132 (fun H locs hP hD hS => ?_)
              refine lv_aload_n hx hb dX12_make_133 rfl (lv_at hl 5 rfl) ?_
              refine va_get (D := G) (ci := 11) (v := .ref (am 17)) (C := RX12) (T := TX12) (N := 52) hx hb hts in_X12 hown hK hP 0 (aM_0 _ _ _ _ _) rfl 28 (by decide) (hts _ q1293) (fun _ h9 => h9) rfl dX12_make_134 ?_
              refine li_iconst hx hb dX12_make_137 ?_
              refine lv_iload_n hx hb dX12_make_138 rfl (lv_at hl 7 rfl) ?_
              refine li_if_eq (tgt := 146) hx hb ⟨by decide, by decide⟩ dX12_make_139 (by decide) (fun c139 => ?_) (fun c139 => ?_)
              · exact absurd c139 (by decide)
              · refine li_iconst hx hb dX12_make_142 ?_
                refine lv_goto (tgt := 148) hx hb dX12_make_143 (by decide) ?_
                refine li_iast (g := (ug (ρ 28) 0 5)) (W2 := wM am ty τ (up ρ 28 (ug (ug (ρ 28) 0 5) 1 5)) ++ cs) hx hb hK hP hD hS 17 0 (aM_17 _ _ _ _ _) rfl (by decide) (by decide) (by decide) rfl dX12_make_148 (fun H locs hP hD hS => ?_)
                exact eMv hQ hx hb hr hlk hP hD hS (Nat.le_of_ble_eq_true rfl) (Nat.le_of_ble_eq_true rfl) dX12_make_149 (⟨rfl, by first | (exfalso; omega) | (have e1 : (ρ 27) = mvw (m1 / 1000 % 10) (m1 % 10) (ρ 27) := (by funext i; by_cases i0 : i = 0; (subst i0; show ρ 27 0 = mvw (m1 / 1000 % 10) (m1 % 10) (ρ 27) 0; rw [mvw_0]; split <;> omega); by_cases i1 : i = 1; (subst i1; show ρ 27 1 = mvw (m1 / 1000 % 10) (m1 % 10) (ρ 27) 1; rw [mvw_1]; split <;> omega); by_cases i2 : i = 2; (subst i2; show ρ 27 2 = mvw (m1 / 1000 % 10) (m1 % 10) (ρ 27) 2; rw [mvw_2]; split <;> omega); (rw [mvw_x i0 i1 i2])); have e3 := congrArg (fun (a : Int → Int) => wM am ty τ (up (up ρ 27 a) 28 (ug (ug (ρ 28) 0 5) 1 5)) ++ cs) e1; exact e3)⟩)
        · refine lv_aload_n hx hb dX12_make_104 rfl (lv_at hl 5 rfl) ?_
          refine va_get (D := G) (ci := 11) (v := .ref (am 17)) (C := RX12) (T := TX12) (N := 52) hx hb hts in_X12 hown hK hP 0 (aM_0 _ _ _ _ _) rfl 28 (by decide) (hts _ q1293) (fun _ h9 => h9) rfl dX12_make_105 ?_
          refine lv_iload hx hb dX12_make_108 (lv_at hl 2 rfl) ?_
          refine li_iconst hx hb dX12_make_110 ?_
          refine li_iast (g := (ρ 28)) (W2 := wM am ty τ (up ρ 28 (ug (ρ 28) ((m1 / 100) % 10) 5)) ++ cs) hx hb hK hP hD hS 17 0 (aM_17 _ _ _ _ _) rfl (by omega) (by omega) (by decide) rfl dX12_make_111 (fun H locs hP hD hS => ?_)
          refine lv_iload_n hx hb dX12_make_112 rfl (lv_at hl 4 rfl) ?_
          refine li_iconst hx hb dX12_make_113 ?_
          refine li_icmp_ne (tgt := 149) hx hb ⟨by omega, by omega⟩ ⟨by decide, by decide⟩ dX12_make_114 (by decide) (fun c114 => ?_) (fun c114 => ?_)
          · exact eMv hQ hx hb hr hlk hP hD hS (Nat.le_of_ble_eq_true rfl) (Nat.le_of_ble_eq_true rfl) dX12_make_149 (⟨rfl, by first | (exfalso; omega) | (have e1 : (ρ 27) = mvw (m1 / 1000 % 10) (m1 % 10) (ρ 27) := (by funext i; by_cases i0 : i = 0; (subst i0; show ρ 27 0 = mvw (m1 / 1000 % 10) (m1 % 10) (ρ 27) 0; rw [mvw_0]; split <;> omega); by_cases i1 : i = 1; (subst i1; show ρ 27 1 = mvw (m1 / 1000 % 10) (m1 % 10) (ρ 27) 1; rw [mvw_1]; split <;> omega); by_cases i2 : i = 2; (subst i2; show ρ 27 2 = mvw (m1 / 1000 % 10) (m1 % 10) (ρ 27) 2; rw [mvw_2]; split <;> omega); (rw [mvw_x i0 i1 i2])); have e3 := congrArg (fun (a : Int → Int) => wM am ty τ (up (up ρ 27 a) 28 (ug (ug (ρ 28) 0 5) 1 5)) ++ cs) e1; exact e3)⟩)
          · refine lv_aload_n hx hb dX12_make_117 rfl (lv_at hl 5 rfl) ?_
            refine va_get (D := G) (ci := 11) (v := .ref (am 17)) (C := RX12) (T := TX12) (N := 52) hx hb hts in_X12 hown hK hP 0 (aM_0 _ _ _ _ _) rfl 28 (by decide) (hts _ q1293) (fun _ h9 => h9) rfl dX12_make_118 ?_
            refine li_iconst hx hb dX12_make_121 ?_
            refine lv_iload_n hx hb dX12_make_122 rfl (lv_at hl 7 rfl) ?_
            refine li_if_eq (tgt := 130) hx hb ⟨by decide, by decide⟩ dX12_make_123 (by decide) (fun c123 => ?_) (fun c123 => ?_)
            · exact absurd c123 (by decide)
            · refine li_iconst hx hb dX12_make_126 ?_
              refine lv_goto (tgt := 132) hx hb dX12_make_127 (by decide) ?_
              refine li_iast (g := (ug (ρ 28) ((m1 / 100) % 10) 5)) (W2 := wM am ty τ (up ρ 28 (ug (ug (ρ 28) ((m1 / 100) % 10) 5) 0 5)) ++ cs) hx hb hK hP hD hS 17 0 (aM_17 _ _ _ _ _) rfl (by decide) (by decide) (by decide) rfl dX12_make_132 (fun H locs hP hD hS => ?_)
              refine lv_aload_n hx hb dX12_make_133 rfl (lv_at hl 5 rfl) ?_
              refine va_get (D := G) (ci := 11) (v := .ref (am 17)) (C := RX12) (T := TX12) (N := 52) hx hb hts in_X12 hown hK hP 0 (aM_0 _ _ _ _ _) rfl 28 (by decide) (hts _ q1293) (fun _ h9 => h9) rfl dX12_make_134 ?_
              refine li_iconst hx hb dX12_make_137 ?_
              refine lv_iload_n hx hb dX12_make_138 rfl (lv_at hl 7 rfl) ?_
              refine li_if_eq (tgt := 146) hx hb ⟨by decide, by decide⟩ dX12_make_139 (by decide) (fun c139 => ?_) (fun c139 => ?_)
              · exact absurd c139 (by decide)
              · refine li_iconst hx hb dX12_make_142 ?_
                refine lv_goto (tgt := 148) hx hb dX12_make_143 (by decide) ?_
                refine li_iast (g := (ug (ug (ρ 28) ((m1 / 100) % 10) 5) 0 5)) (W2 := wM am ty τ (up ρ 28 (ug (ug (ug (ρ 28) ((m1 / 100) % 10) 5) 0 5) 1 5)) ++ cs) hx hb hK hP hD hS 17 0 (aM_17 _ _ _ _ _) rfl (by decide) (by decide) (by decide) rfl dX12_make_148 (fun H locs hP hD hS => ?_)
                exact eMv hQ hx hb hr hlk hP hD hS (Nat.le_of_ble_eq_true rfl) (Nat.le_of_ble_eq_true rfl) dX12_make_149 (⟨rfl, by first | (exfalso; omega) | (have e1 : (ρ 27) = mvw (m1 / 1000 % 10) (m1 % 10) (ρ 27) := (by funext i; by_cases i0 : i = 0; (subst i0; show ρ 27 0 = mvw (m1 / 1000 % 10) (m1 % 10) (ρ 27) 0; rw [mvw_0]; split <;> omega); by_cases i1 : i = 1; (subst i1; show ρ 27 1 = mvw (m1 / 1000 % 10) (m1 % 10) (ρ 27) 1; rw [mvw_1]; split <;> omega); by_cases i2 : i = 2; (subst i2; show ρ 27 2 = mvw (m1 / 1000 % 10) (m1 % 10) (ρ 27) 2; rw [mvw_2]; split <;> omega); (rw [mvw_x i0 i1 i2])); have e3 := congrArg (fun (a : Int → Int) => wM am ty τ (up (up ρ 27 a) 28 (ug (ug (ρ 28) 0 5) 1 5)) ++ cs) e1; exact e3)⟩)
      · refine lv_aload_n hx hb dX12_make_90 rfl (lv_at hl 5 rfl) ?_
        refine va_get (D := G) (ci := 11) (v := .ref (am 17)) (C := RX12) (T := TX12) (N := 52) hx hb hts in_X12 hown hK hP 0 (aM_0 _ _ _ _ _) rfl 28 (by decide) (hts _ q1293) (fun _ h9 => h9) rfl dX12_make_91 ?_
        refine lv_iload hx hb dX12_make_94 (lv_at hl 2 rfl) ?_
        refine lv_iload hx hb dX12_make_96 (lv_at hl 1 rfl) ?_
        refine li_iast (g := (ρ 28)) (W2 := wM am ty τ (up ρ 28 (ug (ρ 28) ((m1 / 100) % 10) (m1 % 10))) ++ cs) hx hb hK hP hD hS 17 0 (aM_17 _ _ _ _ _) rfl (by omega) (by omega) (by decide) rfl dX12_make_98 (fun H locs hP hD hS => ?_)
        refine lv_iload_n hx hb dX12_make_99 rfl (lv_at hl 4 rfl) ?_
        refine li_iconst hx hb dX12_make_100 ?_
        refine li_icmp_ne (tgt := 112) hx hb ⟨by omega, by omega⟩ ⟨by decide, by decide⟩ dX12_make_101 (by decide) (fun c101 => ?_) (fun c101 => ?_)
        · refine lv_iload_n hx hb dX12_make_112 rfl (lv_at hl 4 rfl) ?_
          refine li_iconst hx hb dX12_make_113 ?_
          refine li_icmp_ne (tgt := 149) hx hb ⟨by omega, by omega⟩ ⟨by decide, by decide⟩ dX12_make_114 (by decide) (fun c114 => ?_) (fun c114 => ?_)
          · exact eMv hQ hx hb hr hlk hP hD hS (Nat.le_of_ble_eq_true rfl) (Nat.le_of_ble_eq_true rfl) dX12_make_149 (⟨rfl, by first | (exfalso; omega) | (have e1 : (ρ 27) = mvw (m1 / 1000 % 10) (m1 % 10) (ρ 27) := (by funext i; by_cases i0 : i = 0; (subst i0; show ρ 27 0 = mvw (m1 / 1000 % 10) (m1 % 10) (ρ 27) 0; rw [mvw_0]; split <;> omega); by_cases i1 : i = 1; (subst i1; show ρ 27 1 = mvw (m1 / 1000 % 10) (m1 % 10) (ρ 27) 1; rw [mvw_1]; split <;> omega); by_cases i2 : i = 2; (subst i2; show ρ 27 2 = mvw (m1 / 1000 % 10) (m1 % 10) (ρ 27) 2; rw [mvw_2]; split <;> omega); (rw [mvw_x i0 i1 i2])); have e3 := congrArg (fun (a : Int → Int) => wM am ty τ (up (up ρ 27 a) 28 (ug (ug (ρ 28) 0 5) 1 5)) ++ cs) e1; exact e3)⟩)
          · refine lv_aload_n hx hb dX12_make_117 rfl (lv_at hl 5 rfl) ?_
            refine va_get (D := G) (ci := 11) (v := .ref (am 17)) (C := RX12) (T := TX12) (N := 52) hx hb hts in_X12 hown hK hP 0 (aM_0 _ _ _ _ _) rfl 28 (by decide) (hts _ q1293) (fun _ h9 => h9) rfl dX12_make_118 ?_
            refine li_iconst hx hb dX12_make_121 ?_
            refine lv_iload_n hx hb dX12_make_122 rfl (lv_at hl 7 rfl) ?_
            refine li_if_eq (tgt := 130) hx hb ⟨by decide, by decide⟩ dX12_make_123 (by decide) (fun c123 => ?_) (fun c123 => ?_)
            · exact absurd c123 (by decide)
            · refine li_iconst hx hb dX12_make_126 ?_
              refine lv_goto (tgt := 132) hx hb dX12_make_127 (by decide) ?_
              refine li_iast (g := (ug (ρ 28) ((m1 / 100) % 10) (m1 % 10))) (W2 := wM am ty τ (up ρ 28 (ug (ug (ρ 28) ((m1 / 100) % 10) (m1 % 10)) 0 5)) ++ cs) hx hb hK hP hD hS 17 0 (aM_17 _ _ _ _ _) rfl (by decide) (by decide) (by decide) rfl dX12_make_132 (fun H locs hP hD hS => ?_)
              refine lv_aload_n hx hb dX12_make_133 rfl (lv_at hl 5 rfl) ?_
              refine va_get (D := G) (ci := 11) (v := .ref (am 17)) (C := RX12) (T := TX12) (N := 52) hx hb hts in_X12 hown hK hP 0 (aM_0 _ _ _ _ _) rfl 28 (by decide) (hts _ q1293) (fun _ h9 => h9) rfl dX12_make_134 ?_
              refine li_iconst hx hb dX12_make_137 ?_
              refine lv_iload_n hx hb dX12_make_138 rfl (lv_at hl 7 rfl) ?_
              refine li_if_eq (tgt := 146) hx hb ⟨by decide, by decide⟩ dX12_make_139 (by decide) (fun c139 => ?_) (fun c139 => ?_)
              · exact absurd c139 (by decide)
              · refine li_iconst hx hb dX12_make_142 ?_
                refine lv_goto (tgt := 148) hx hb dX12_make_143 (by decide) ?_
                refine li_iast (g := (ug (ug (ρ 28) ((m1 / 100) % 10) (m1 % 10)) 0 5)) (W2 := wM am ty τ (up ρ 28 (ug (ug (ug (ρ 28) ((m1 / 100) % 10) (m1 % 10)) 0 5) 1 5)) ++ cs) hx hb hK hP hD hS 17 0 (aM_17 _ _ _ _ _) rfl (by decide) (by decide) (by decide) rfl dX12_make_148 (fun H locs hP hD hS => ?_)
                exact eMv hQ hx hb hr hlk hP hD hS (Nat.le_of_ble_eq_true rfl) (Nat.le_of_ble_eq_true rfl) dX12_make_149 (⟨rfl, by first | (exfalso; omega) | (have e1 : (ρ 27) = mvw (m1 / 1000 % 10) (m1 % 10) (ρ 27) := (by funext i; by_cases i0 : i = 0; (subst i0; show ρ 27 0 = mvw (m1 / 1000 % 10) (m1 % 10) (ρ 27) 0; rw [mvw_0]; split <;> omega); by_cases i1 : i = 1; (subst i1; show ρ 27 1 = mvw (m1 / 1000 % 10) (m1 % 10) (ρ 27) 1; rw [mvw_1]; split <;> omega); by_cases i2 : i = 2; (subst i2; show ρ 27 2 = mvw (m1 / 1000 % 10) (m1 % 10) (ρ 27) 2; rw [mvw_2]; split <;> omega); (rw [mvw_x i0 i1 i2])); have e3 := congrArg (fun (a : Int → Int) => wM am ty τ (up (up ρ 27 a) 28 (ug (ug (ρ 28) 0 5) 1 5)) ++ cs) e1; exact e3)⟩)
        · refine lv_aload_n hx hb dX12_make_104 rfl (lv_at hl 5 rfl) ?_
          refine va_get (D := G) (ci := 11) (v := .ref (am 17)) (C := RX12) (T := TX12) (N := 52) hx hb hts in_X12 hown hK hP 0 (aM_0 _ _ _ _ _) rfl 28 (by decide) (hts _ q1293) (fun _ h9 => h9) rfl dX12_make_105 ?_
          refine lv_iload hx hb dX12_make_108 (lv_at hl 2 rfl) ?_
          refine li_iconst hx hb dX12_make_110 ?_
          refine li_iast (g := (ug (ρ 28) ((m1 / 100) % 10) (m1 % 10))) (W2 := wM am ty τ (up ρ 28 (ug (ug (ρ 28) ((m1 / 100) % 10) (m1 % 10)) ((m1 / 100) % 10) 5)) ++ cs) hx hb hK hP hD hS 17 0 (aM_17 _ _ _ _ _) rfl (by omega) (by omega) (by decide) rfl dX12_make_111 (fun H locs hP hD hS => ?_)
          refine lv_iload_n hx hb dX12_make_112 rfl (lv_at hl 4 rfl) ?_
          refine li_iconst hx hb dX12_make_113 ?_
          refine li_icmp_ne (tgt := 149) hx hb ⟨by omega, by omega⟩ ⟨by decide, by decide⟩ dX12_make_114 (by decide) (fun c114 => ?_) (fun c114 => ?_)
          · exact eMv hQ hx hb hr hlk hP hD hS (Nat.le_of_ble_eq_true rfl) (Nat.le_of_ble_eq_true rfl) dX12_make_149 (⟨rfl, by first | (exfalso; omega) | (have e1 : (ρ 27) = mvw (m1 / 1000 % 10) (m1 % 10) (ρ 27) := (by funext i; by_cases i0 : i = 0; (subst i0; show ρ 27 0 = mvw (m1 / 1000 % 10) (m1 % 10) (ρ 27) 0; rw [mvw_0]; split <;> omega); by_cases i1 : i = 1; (subst i1; show ρ 27 1 = mvw (m1 / 1000 % 10) (m1 % 10) (ρ 27) 1; rw [mvw_1]; split <;> omega); by_cases i2 : i = 2; (subst i2; show ρ 27 2 = mvw (m1 / 1000 % 10) (m1 % 10) (ρ 27) 2; rw [mvw_2]; split <;> omega); (rw [mvw_x i0 i1 i2])); have e3 := congrArg (fun (a : Int → Int) => wM am ty τ (up (up ρ 27 a) 28 (ug (ug (ρ 28) 0 5) 1 5)) ++ cs) e1; exact e3)⟩)
          · refine lv_aload_n hx hb dX12_make_117 rfl (lv_at hl 5 rfl) ?_
            refine va_get (D := G) (ci := 11) (v := .ref (am 17)) (C := RX12) (T := TX12) (N := 52) hx hb hts in_X12 hown hK hP 0 (aM_0 _ _ _ _ _) rfl 28 (by decide) (hts _ q1293) (fun _ h9 => h9) rfl dX12_make_118 ?_
            refine li_iconst hx hb dX12_make_121 ?_
            refine lv_iload_n hx hb dX12_make_122 rfl (lv_at hl 7 rfl) ?_
            refine li_if_eq (tgt := 130) hx hb ⟨by decide, by decide⟩ dX12_make_123 (by decide) (fun c123 => ?_) (fun c123 => ?_)
            · exact absurd c123 (by decide)
            · refine li_iconst hx hb dX12_make_126 ?_
              refine lv_goto (tgt := 132) hx hb dX12_make_127 (by decide) ?_
              refine li_iast (g := (ug (ug (ρ 28) ((m1 / 100) % 10) (m1 % 10)) ((m1 / 100) % 10) 5)) (W2 := wM am ty τ (up ρ 28 (ug (ug (ug (ρ 28) ((m1 / 100) % 10) (m1 % 10)) ((m1 / 100) % 10) 5) 0 5)) ++ cs) hx hb hK hP hD hS 17 0 (aM_17 _ _ _ _ _) rfl (by decide) (by decide) (by decide) rfl dX12_make_132 (fun H locs hP hD hS => ?_)
              refine lv_aload_n hx hb dX12_make_133 rfl (lv_at hl 5 rfl) ?_
              refine va_get (D := G) (ci := 11) (v := .ref (am 17)) (C := RX12) (T := TX12) (N := 52) hx hb hts in_X12 hown hK hP 0 (aM_0 _ _ _ _ _) rfl 28 (by decide) (hts _ q1293) (fun _ h9 => h9) rfl dX12_make_134 ?_
              refine li_iconst hx hb dX12_make_137 ?_
              refine lv_iload_n hx hb dX12_make_138 rfl (lv_at hl 7 rfl) ?_
              refine li_if_eq (tgt := 146) hx hb ⟨by decide, by decide⟩ dX12_make_139 (by decide) (fun c139 => ?_) (fun c139 => ?_)
              · exact absurd c139 (by decide)
              · refine li_iconst hx hb dX12_make_142 ?_
                refine lv_goto (tgt := 148) hx hb dX12_make_143 (by decide) ?_
                refine li_iast (g := (ug (ug (ug (ρ 28) ((m1 / 100) % 10) (m1 % 10)) ((m1 / 100) % 10) 5) 0 5)) (W2 := wM am ty τ (up ρ 28 (ug (ug (ug (ug (ρ 28) ((m1 / 100) % 10) (m1 % 10)) ((m1 / 100) % 10) 5) 0 5) 1 5)) ++ cs) hx hb hK hP hD hS 17 0 (aM_17 _ _ _ _ _) rfl (by decide) (by decide) (by decide) rfl dX12_make_148 (fun H locs hP hD hS => ?_)
                exact eMv hQ hx hb hr hlk hP hD hS (Nat.le_of_ble_eq_true rfl) (Nat.le_of_ble_eq_true rfl) dX12_make_149 (⟨rfl, by first | (exfalso; omega) | (have e1 : (ρ 27) = mvw (m1 / 1000 % 10) (m1 % 10) (ρ 27) := (by funext i; by_cases i0 : i = 0; (subst i0; show ρ 27 0 = mvw (m1 / 1000 % 10) (m1 % 10) (ρ 27) 0; rw [mvw_0]; split <;> omega); by_cases i1 : i = 1; (subst i1; show ρ 27 1 = mvw (m1 / 1000 % 10) (m1 % 10) (ρ 27) 1; rw [mvw_1]; split <;> omega); by_cases i2 : i = 2; (subst i2; show ρ 27 2 = mvw (m1 / 1000 % 10) (m1 % 10) (ρ 27) 2; rw [mvw_2]; split <;> omega); (rw [mvw_x i0 i1 i2])); have e3 := congrArg (fun (a : Int → Int) => wM am ty τ (up (up ρ 27 a) 28 (ug (ug (ρ 28) 0 5) 1 5)) ++ cs) e1; exact e3)⟩)
  · refine lv_aload_n hx hb dX12_make_43 rfl (lv_at hl 5 rfl) ?_
    refine va_get (D := G) (ci := 11) (v := .ref (am 16)) (C := RX12) (T := TX12) (N := 52) hx hb hts in_X12 hown hK hP 0 (aM_0 _ _ _ _ _) rfl 27 (by decide) (hts _ q1292) (fun _ h9 => h9) rfl dX12_make_44 ?_
    refine lv_iload hx hb dX12_make_47 (lv_at hl 0 rfl) ?_
    refine lv_iload hx hb dX12_make_49 (lv_at hl 3 rfl) ?_
    refine lv_iload hx hb dX12_make_51 (lv_at hl 0 rfl) ?_
    refine lv_ishr hx hb dX12_make_53 ?_
    refine li_topx (z := (m1 / 1000) % 10) (ii_shr0 (by omega) (by omega)) ?_
    refine li_iconst hx hb dX12_make_54 ?_
    refine lv_iand hx hb dX12_make_55 ?_
    refine li_topx (z := ((m1 / 1000) % 10) % 2) (ii_and1 (by omega) (by omega)) ?_
    refine li_iconst hx hb dX12_make_56 ?_
    have J57 : ∀ (y57_0 : Int) (_ : ((¬ (((m1 / 1000) % 10) % 2) = 1) ∧ y57_0 = ρ 27 0) ∨ (((((m1 / 1000) % 10) % 2) = 1) ∧ y57_0 = m1 % 10)) (H : Heap) (locs : List Loc) (_ : va_P G gcl (wM am ty τ ρ ++ cs) H) (_ : va_D A (wM am ty τ ρ ++ cs)) (_ : va_S A s.heap H locs) (ls : Array Slot), lv_has ls 8 [(7, .int (ii 0)), (6, .int (ii (m1 % 10))), (5, .int (ii ((m1 / 100) % 10))), (4, .int (ii ((m1 / 1000) % 10))), (3, .int (ii (m1 / 10000))), (0, .ref (am 0)), (1, .int (ii m1)), (2, .int (ii 1))] → W p l e (rm4 0 0 0 0) s m args below meth c H locs 0 0 Q (F0 m 72 ls [.int (ii y57_0), .int (ii 0), .ref (am 16)]) := by
      intro y57_0 hj57 H locs hP hD hS ls hl
      refine li_iast (g := (ρ 27)) (W2 := wM am ty τ (up ρ 27 (ug (ρ 27) 0 y57_0)) ++ cs) hx hb hK hP hD hS 16 0 (aM_16 _ _ _ _ _) rfl (by decide) (by decide) (by decide) rfl dX12_make_72 (fun H locs hP hD hS => ?_)
      refine li_iinc (a := 0) (lv' := [(7, .int (ii 1)), (6, .int (ii (m1 % 10))), (5, .int (ii ((m1 / 100) % 10))), (4, .int (ii ((m1 / 1000) % 10))), (3, .int (ii (m1 / 10000))), (0, .ref (am 0)), (1, .int (ii m1)), (2, .int (ii 1))]) hx hb dX12_make_73 hl (k := 0) rfl (by decide) rfl (fun ls hl => ?_)
      refine lv_goto (tgt := 34) hx hb dX12_make_76 (by decide) ?_
      refine lv_iload hx hb dX12_make_34 (lv_at hl 0 rfl) ?_
      refine lv_aload_n hx hb dX12_make_36 rfl (lv_at hl 5 rfl) ?_
      refine va_get (D := G) (ci := 11) (v := .int (ii (τ 5 0))) (C := RX12) (T := TX12) (N := 52) hx hb hts in_X12 hown hK hP 0 (aM_0 _ _ _ _ _) rfl 5 (by decide) (hts _ q1270) (fun _ h9 => h9) rfl dX12_make_37 ?_
      refine li_icmp_ge (tgt := 79) hx hb ⟨by decide, by decide⟩ ⟨by omega, by omega⟩ dX12_make_40 (by decide) (fun c40 => ?_) (fun c40 => ?_)
      · refine lv_iload_n hx hb dX12_make_79 rfl (lv_at hl 4 rfl) ?_
        refine li_iconst hx hb dX12_make_80 ?_
        refine li_icmp_eq (tgt := 90) hx hb ⟨by omega, by omega⟩ ⟨by decide, by decide⟩ dX12_make_81 (by decide) (fun c81 => ?_) (fun c81 => ?_)
        · refine lv_aload_n hx hb dX12_make_90 rfl (lv_at hl 5 rfl) ?_
          refine va_get (D := G) (ci := 11) (v := .ref (am 17)) (C := RX12) (T := TX12) (N := 52) hx hb hts in_X12 hown hK hP 0 (aM_0 _ _ _ _ _) rfl 28 (by decide) (hts _ q1293) (fun _ h9 => h9) rfl dX12_make_91 ?_
          refine lv_iload hx hb dX12_make_94 (lv_at hl 2 rfl) ?_
          refine lv_iload hx hb dX12_make_96 (lv_at hl 1 rfl) ?_
          refine li_iast (g := (ρ 28)) (W2 := wM am ty τ (up (up ρ 27 (ug (ρ 27) 0 y57_0)) 28 (ug (ρ 28) ((m1 / 100) % 10) (m1 % 10))) ++ cs) hx hb hK hP hD hS 17 0 (aM_17 _ _ _ _ _) rfl (by omega) (by omega) (by decide) rfl dX12_make_98 (fun H locs hP hD hS => ?_)
          refine lv_iload_n hx hb dX12_make_99 rfl (lv_at hl 4 rfl) ?_
          refine li_iconst hx hb dX12_make_100 ?_
          refine li_icmp_ne (tgt := 112) hx hb ⟨by omega, by omega⟩ ⟨by decide, by decide⟩ dX12_make_101 (by decide) (fun c101 => ?_) (fun c101 => ?_)
          · refine lv_iload_n hx hb dX12_make_112 rfl (lv_at hl 4 rfl) ?_
            refine li_iconst hx hb dX12_make_113 ?_
            refine li_icmp_ne (tgt := 149) hx hb ⟨by omega, by omega⟩ ⟨by decide, by decide⟩ dX12_make_114 (by decide) (fun c114 => ?_) (fun c114 => ?_)
            · exact eMv hQ hx hb hr hlk hP hD hS (Nat.le_of_ble_eq_true rfl) (Nat.le_of_ble_eq_true rfl) dX12_make_149 (⟨rfl, by first | (exfalso; omega) | (have e1 : (ug (ρ 27) 0 y57_0) = mvw (m1 / 1000 % 10) (m1 % 10) (ρ 27) := (by funext i; by_cases i0 : i = 0; (subst i0; show y57_0 = mvw (m1 / 1000 % 10) (m1 % 10) (ρ 27) 0; rw [mvw_0]; split <;> omega); by_cases i1 : i = 1; (subst i1; show ρ 27 1 = mvw (m1 / 1000 % 10) (m1 % 10) (ρ 27) 1; rw [mvw_1]; split <;> omega); by_cases i2 : i = 2; (subst i2; show ρ 27 2 = mvw (m1 / 1000 % 10) (m1 % 10) (ρ 27) 2; rw [mvw_2]; split <;> omega); (rw [mvw_x i0 i1 i2, ug_n i0])); have e3 := congrArg (fun (a : Int → Int) => wM am ty τ (up (up ρ 27 a) 28 (ug (ug (ρ 28) 0 5) 1 5)) ++ cs) e1; exact e3)⟩)
            · refine lv_aload_n hx hb dX12_make_117 rfl (lv_at hl 5 rfl) ?_
              refine va_get (D := G) (ci := 11) (v := .ref (am 17)) (C := RX12) (T := TX12) (N := 52) hx hb hts in_X12 hown hK hP 0 (aM_0 _ _ _ _ _) rfl 28 (by decide) (hts _ q1293) (fun _ h9 => h9) rfl dX12_make_118 ?_
              refine li_iconst hx hb dX12_make_121 ?_
              refine lv_iload_n hx hb dX12_make_122 rfl (lv_at hl 7 rfl) ?_
              refine li_if_eq (tgt := 130) hx hb ⟨by decide, by decide⟩ dX12_make_123 (by decide) (fun c123 => ?_) (fun c123 => ?_)
              · exact absurd c123 (by decide)
              · refine li_iconst hx hb dX12_make_126 ?_
                refine lv_goto (tgt := 132) hx hb dX12_make_127 (by decide) ?_
                refine li_iast (g := (ug (ρ 28) ((m1 / 100) % 10) (m1 % 10))) (W2 := wM am ty τ (up (up ρ 27 (ug (ρ 27) 0 y57_0)) 28 (ug (ug (ρ 28) ((m1 / 100) % 10) (m1 % 10)) 0 5)) ++ cs) hx hb hK hP hD hS 17 0 (aM_17 _ _ _ _ _) rfl (by decide) (by decide) (by decide) rfl dX12_make_132 (fun H locs hP hD hS => ?_)
                refine lv_aload_n hx hb dX12_make_133 rfl (lv_at hl 5 rfl) ?_
                refine va_get (D := G) (ci := 11) (v := .ref (am 17)) (C := RX12) (T := TX12) (N := 52) hx hb hts in_X12 hown hK hP 0 (aM_0 _ _ _ _ _) rfl 28 (by decide) (hts _ q1293) (fun _ h9 => h9) rfl dX12_make_134 ?_
                refine li_iconst hx hb dX12_make_137 ?_
                refine lv_iload_n hx hb dX12_make_138 rfl (lv_at hl 7 rfl) ?_
                refine li_if_eq (tgt := 146) hx hb ⟨by decide, by decide⟩ dX12_make_139 (by decide) (fun c139 => ?_) (fun c139 => ?_)
                · exact absurd c139 (by decide)
                · refine li_iconst hx hb dX12_make_142 ?_
                  refine lv_goto (tgt := 148) hx hb dX12_make_143 (by decide) ?_
                  refine li_iast (g := (ug (ug (ρ 28) ((m1 / 100) % 10) (m1 % 10)) 0 5)) (W2 := wM am ty τ (up (up ρ 27 (ug (ρ 27) 0 y57_0)) 28 (ug (ug (ug (ρ 28) ((m1 / 100) % 10) (m1 % 10)) 0 5) 1 5)) ++ cs) hx hb hK hP hD hS 17 0 (aM_17 _ _ _ _ _) rfl (by decide) (by decide) (by decide) rfl dX12_make_148 (fun H locs hP hD hS => ?_)
                  exact eMv hQ hx hb hr hlk hP hD hS (Nat.le_of_ble_eq_true rfl) (Nat.le_of_ble_eq_true rfl) dX12_make_149 (⟨rfl, by first | (exfalso; omega) | (have e1 : (ug (ρ 27) 0 y57_0) = mvw (m1 / 1000 % 10) (m1 % 10) (ρ 27) := (by funext i; by_cases i0 : i = 0; (subst i0; show y57_0 = mvw (m1 / 1000 % 10) (m1 % 10) (ρ 27) 0; rw [mvw_0]; split <;> omega); by_cases i1 : i = 1; (subst i1; show ρ 27 1 = mvw (m1 / 1000 % 10) (m1 % 10) (ρ 27) 1; rw [mvw_1]; split <;> omega); by_cases i2 : i = 2; (subst i2; show ρ 27 2 = mvw (m1 / 1000 % 10) (m1 % 10) (ρ 27) 2; rw [mvw_2]; split <;> omega); (rw [mvw_x i0 i1 i2, ug_n i0])); have e3 := congrArg (fun (a : Int → Int) => wM am ty τ (up (up ρ 27 a) 28 (ug (ug (ρ 28) 0 5) 1 5)) ++ cs) e1; exact e3)⟩)
          · refine lv_aload_n hx hb dX12_make_104 rfl (lv_at hl 5 rfl) ?_
            refine va_get (D := G) (ci := 11) (v := .ref (am 17)) (C := RX12) (T := TX12) (N := 52) hx hb hts in_X12 hown hK hP 0 (aM_0 _ _ _ _ _) rfl 28 (by decide) (hts _ q1293) (fun _ h9 => h9) rfl dX12_make_105 ?_
            refine lv_iload hx hb dX12_make_108 (lv_at hl 2 rfl) ?_
            refine li_iconst hx hb dX12_make_110 ?_
            refine li_iast (g := (ug (ρ 28) ((m1 / 100) % 10) (m1 % 10))) (W2 := wM am ty τ (up (up ρ 27 (ug (ρ 27) 0 y57_0)) 28 (ug (ug (ρ 28) ((m1 / 100) % 10) (m1 % 10)) ((m1 / 100) % 10) 5)) ++ cs) hx hb hK hP hD hS 17 0 (aM_17 _ _ _ _ _) rfl (by omega) (by omega) (by decide) rfl dX12_make_111 (fun H locs hP hD hS => ?_)
            refine lv_iload_n hx hb dX12_make_112 rfl (lv_at hl 4 rfl) ?_
            refine li_iconst hx hb dX12_make_113 ?_
            refine li_icmp_ne (tgt := 149) hx hb ⟨by omega, by omega⟩ ⟨by decide, by decide⟩ dX12_make_114 (by decide) (fun c114 => ?_) (fun c114 => ?_)
            · exact eMv hQ hx hb hr hlk hP hD hS (Nat.le_of_ble_eq_true rfl) (Nat.le_of_ble_eq_true rfl) dX12_make_149 (⟨rfl, by first | (exfalso; omega) | (have e1 : (ug (ρ 27) 0 y57_0) = mvw (m1 / 1000 % 10) (m1 % 10) (ρ 27) := (by funext i; by_cases i0 : i = 0; (subst i0; show y57_0 = mvw (m1 / 1000 % 10) (m1 % 10) (ρ 27) 0; rw [mvw_0]; split <;> omega); by_cases i1 : i = 1; (subst i1; show ρ 27 1 = mvw (m1 / 1000 % 10) (m1 % 10) (ρ 27) 1; rw [mvw_1]; split <;> omega); by_cases i2 : i = 2; (subst i2; show ρ 27 2 = mvw (m1 / 1000 % 10) (m1 % 10) (ρ 27) 2; rw [mvw_2]; split <;> omega); (rw [mvw_x i0 i1 i2, ug_n i0])); have e3 := congrArg (fun (a : Int → Int) => wM am ty τ (up (up ρ 27 a) 28 (ug (ug (ρ 28) 0 5) 1 5)) ++ cs) e1; exact e3)⟩)
            · refine lv_aload_n hx hb dX12_make_117 rfl (lv_at hl 5 rfl) ?_
              refine va_get (D := G) (ci := 11) (v := .ref (am 17)) (C := RX12) (T := TX12) (N := 52) hx hb hts in_X12 hown hK hP 0 (aM_0 _ _ _ _ _) rfl 28 (by decide) (hts _ q1293) (fun _ h9 => h9) rfl dX12_make_118 ?_
              refine li_iconst hx hb dX12_make_121 ?_
              refine lv_iload_n hx hb dX12_make_122 rfl (lv_at hl 7 rfl) ?_
              refine li_if_eq (tgt := 130) hx hb ⟨by decide, by decide⟩ dX12_make_123 (by decide) (fun c123 => ?_) (fun c123 => ?_)
              · exact absurd c123 (by decide)
              · refine li_iconst hx hb dX12_make_126 ?_
                refine lv_goto (tgt := 132) hx hb dX12_make_127 (by decide) ?_
                refine li_iast (g := (ug (ug (ρ 28) ((m1 / 100) % 10) (m1 % 10)) ((m1 / 100) % 10) 5)) (W2 := wM am ty τ (up (up ρ 27 (ug (ρ 27) 0 y57_0)) 28 (ug (ug (ug (ρ 28) ((m1 / 100) % 10) (m1 % 10)) ((m1 / 100) % 10) 5) 0 5)) ++ cs) hx hb hK hP hD hS 17 0 (aM_17 _ _ _ _ _) rfl (by decide) (by decide) (by decide) rfl dX12_make_132 (fun H locs hP hD hS => ?_)
                refine lv_aload_n hx hb dX12_make_133 rfl (lv_at hl 5 rfl) ?_
                refine va_get (D := G) (ci := 11) (v := .ref (am 17)) (C := RX12) (T := TX12) (N := 52) hx hb hts in_X12 hown hK hP 0 (aM_0 _ _ _ _ _) rfl 28 (by decide) (hts _ q1293) (fun _ h9 => h9) rfl dX12_make_134 ?_
                refine li_iconst hx hb dX12_make_137 ?_
                refine lv_iload_n hx hb dX12_make_138 rfl (lv_at hl 7 rfl) ?_
                refine li_if_eq (tgt := 146) hx hb ⟨by decide, by decide⟩ dX12_make_139 (by decide) (fun c139 => ?_) (fun c139 => ?_)
                · exact absurd c139 (by decide)
                · refine li_iconst hx hb dX12_make_142 ?_
                  refine lv_goto (tgt := 148) hx hb dX12_make_143 (by decide) ?_
                  refine li_iast (g := (ug (ug (ug (ρ 28) ((m1 / 100) % 10) (m1 % 10)) ((m1 / 100) % 10) 5) 0 5)) (W2 := wM am ty τ (up (up ρ 27 (ug (ρ 27) 0 y57_0)) 28 (ug (ug (ug (ug (ρ 28) ((m1 / 100) % 10) (m1 % 10)) ((m1 / 100) % 10) 5) 0 5) 1 5)) ++ cs) hx hb hK hP hD hS 17 0 (aM_17 _ _ _ _ _) rfl (by decide) (by decide) (by decide) rfl dX12_make_148 (fun H locs hP hD hS => ?_)
                  exact eMv hQ hx hb hr hlk hP hD hS (Nat.le_of_ble_eq_true rfl) (Nat.le_of_ble_eq_true rfl) dX12_make_149 (⟨rfl, by first | (exfalso; omega) | (have e1 : (ug (ρ 27) 0 y57_0) = mvw (m1 / 1000 % 10) (m1 % 10) (ρ 27) := (by funext i; by_cases i0 : i = 0; (subst i0; show y57_0 = mvw (m1 / 1000 % 10) (m1 % 10) (ρ 27) 0; rw [mvw_0]; split <;> omega); by_cases i1 : i = 1; (subst i1; show ρ 27 1 = mvw (m1 / 1000 % 10) (m1 % 10) (ρ 27) 1; rw [mvw_1]; split <;> omega); by_cases i2 : i = 2; (subst i2; show ρ 27 2 = mvw (m1 / 1000 % 10) (m1 % 10) (ρ 27) 2; rw [mvw_2]; split <;> omega); (rw [mvw_x i0 i1 i2, ug_n i0])); have e3 := congrArg (fun (a : Int → Int) => wM am ty τ (up (up ρ 27 a) 28 (ug (ug (ρ 28) 0 5) 1 5)) ++ cs) e1; exact e3)⟩)
        · refine lv_iload_n hx hb dX12_make_84 rfl (lv_at hl 4 rfl) ?_
          refine li_bipush hx hb dX12_make_85 (by decide) ?_
          refine li_icmp_ne (tgt := 99) hx hb ⟨by omega, by omega⟩ ⟨by decide, by decide⟩ dX12_make_87 (by decide) (fun c87 => ?_) (fun c87 => ?_)
          · refine lv_iload_n hx hb dX12_make_99 rfl (lv_at hl 4 rfl) ?_
            refine li_iconst hx hb dX12_make_100 ?_
            refine li_icmp_ne (tgt := 112) hx hb ⟨by omega, by omega⟩ ⟨by decide, by decide⟩ dX12_make_101 (by decide) (fun c101 => ?_) (fun c101 => ?_)
            · refine lv_iload_n hx hb dX12_make_112 rfl (lv_at hl 4 rfl) ?_
              refine li_iconst hx hb dX12_make_113 ?_
              refine li_icmp_ne (tgt := 149) hx hb ⟨by omega, by omega⟩ ⟨by decide, by decide⟩ dX12_make_114 (by decide) (fun c114 => ?_) (fun c114 => ?_)
              · exact eMv hQ hx hb hr hlk hP hD hS (Nat.le_of_ble_eq_true rfl) (Nat.le_of_ble_eq_true rfl) dX12_make_149 (⟨rfl, by first | (exfalso; omega) | (have e1 : (ug (ρ 27) 0 y57_0) = mvw (m1 / 1000 % 10) (m1 % 10) (ρ 27) := (by funext i; by_cases i0 : i = 0; (subst i0; show y57_0 = mvw (m1 / 1000 % 10) (m1 % 10) (ρ 27) 0; rw [mvw_0]; split <;> omega); by_cases i1 : i = 1; (subst i1; show ρ 27 1 = mvw (m1 / 1000 % 10) (m1 % 10) (ρ 27) 1; rw [mvw_1]; split <;> omega); by_cases i2 : i = 2; (subst i2; show ρ 27 2 = mvw (m1 / 1000 % 10) (m1 % 10) (ρ 27) 2; rw [mvw_2]; split <;> omega); (rw [mvw_x i0 i1 i2, ug_n i0])); have e3 := congrArg (fun (a : Int → Int) => wM am ty τ (up (up ρ 27 a) 28 (ug (ug (ρ 28) 0 5) 1 5)) ++ cs) e1; exact e3)⟩)
              · refine lv_aload_n hx hb dX12_make_117 rfl (lv_at hl 5 rfl) ?_
                refine va_get (D := G) (ci := 11) (v := .ref (am 17)) (C := RX12) (T := TX12) (N := 52) hx hb hts in_X12 hown hK hP 0 (aM_0 _ _ _ _ _) rfl 28 (by decide) (hts _ q1293) (fun _ h9 => h9) rfl dX12_make_118 ?_
                refine li_iconst hx hb dX12_make_121 ?_
                refine lv_iload_n hx hb dX12_make_122 rfl (lv_at hl 7 rfl) ?_
                refine li_if_eq (tgt := 130) hx hb ⟨by decide, by decide⟩ dX12_make_123 (by decide) (fun c123 => ?_) (fun c123 => ?_)
                · exact absurd c123 (by decide)
                · refine li_iconst hx hb dX12_make_126 ?_
                  refine lv_goto (tgt := 132) hx hb dX12_make_127 (by decide) ?_
                  refine li_iast (g := (ρ 28)) (W2 := wM am ty τ (up (up ρ 27 (ug (ρ 27) 0 y57_0)) 28 (ug (ρ 28) 0 5)) ++ cs) hx hb hK hP hD hS 17 0 (aM_17 _ _ _ _ _) rfl (by decide) (by decide) (by decide) rfl dX12_make_132 (fun H locs hP hD hS => ?_)
                  refine lv_aload_n hx hb dX12_make_133 rfl (lv_at hl 5 rfl) ?_
                  refine va_get (D := G) (ci := 11) (v := .ref (am 17)) (C := RX12) (T := TX12) (N := 52) hx hb hts in_X12 hown hK hP 0 (aM_0 _ _ _ _ _) rfl 28 (by decide) (hts _ q1293) (fun _ h9 => h9) rfl dX12_make_134 ?_
                  refine li_iconst hx hb dX12_make_137 ?_
                  refine lv_iload_n hx hb dX12_make_138 rfl (lv_at hl 7 rfl) ?_
                  refine li_if_eq (tgt := 146) hx hb ⟨by decide, by decide⟩ dX12_make_139 (by decide) (fun c139 => ?_) (fun c139 => ?_)
                  · exact absurd c139 (by decide)
                  · refine li_iconst hx hb dX12_make_142 ?_
                    refine lv_goto (tgt := 148) hx hb dX12_make_143 (by decide) ?_
                    refine li_iast (g := (ug (ρ 28) 0 5)) (W2 := wM am ty τ (up (up ρ 27 (ug (ρ 27) 0 y57_0)) 28 (ug (ug (ρ 28) 0 5) 1 5)) ++ cs) hx hb hK hP hD hS 17 0 (aM_17 _ _ _ _ _) rfl (by decide) (by decide) (by decide) rfl dX12_make_148 (fun H locs hP hD hS => ?_)
                    exact eMv hQ hx hb hr hlk hP hD hS (Nat.le_of_ble_eq_true rfl) (Nat.le_of_ble_eq_true rfl) dX12_make_149 (⟨rfl, by first | (exfalso; omega) | (have e1 : (ug (ρ 27) 0 y57_0) = mvw (m1 / 1000 % 10) (m1 % 10) (ρ 27) := (by funext i; by_cases i0 : i = 0; (subst i0; show y57_0 = mvw (m1 / 1000 % 10) (m1 % 10) (ρ 27) 0; rw [mvw_0]; split <;> omega); by_cases i1 : i = 1; (subst i1; show ρ 27 1 = mvw (m1 / 1000 % 10) (m1 % 10) (ρ 27) 1; rw [mvw_1]; split <;> omega); by_cases i2 : i = 2; (subst i2; show ρ 27 2 = mvw (m1 / 1000 % 10) (m1 % 10) (ρ 27) 2; rw [mvw_2]; split <;> omega); (rw [mvw_x i0 i1 i2, ug_n i0])); have e3 := congrArg (fun (a : Int → Int) => wM am ty τ (up (up ρ 27 a) 28 (ug (ug (ρ 28) 0 5) 1 5)) ++ cs) e1; exact e3)⟩)
            · refine lv_aload_n hx hb dX12_make_104 rfl (lv_at hl 5 rfl) ?_
              refine va_get (D := G) (ci := 11) (v := .ref (am 17)) (C := RX12) (T := TX12) (N := 52) hx hb hts in_X12 hown hK hP 0 (aM_0 _ _ _ _ _) rfl 28 (by decide) (hts _ q1293) (fun _ h9 => h9) rfl dX12_make_105 ?_
              refine lv_iload hx hb dX12_make_108 (lv_at hl 2 rfl) ?_
              refine li_iconst hx hb dX12_make_110 ?_
              refine li_iast (g := (ρ 28)) (W2 := wM am ty τ (up (up ρ 27 (ug (ρ 27) 0 y57_0)) 28 (ug (ρ 28) ((m1 / 100) % 10) 5)) ++ cs) hx hb hK hP hD hS 17 0 (aM_17 _ _ _ _ _) rfl (by omega) (by omega) (by decide) rfl dX12_make_111 (fun H locs hP hD hS => ?_)
              refine lv_iload_n hx hb dX12_make_112 rfl (lv_at hl 4 rfl) ?_
              refine li_iconst hx hb dX12_make_113 ?_
              refine li_icmp_ne (tgt := 149) hx hb ⟨by omega, by omega⟩ ⟨by decide, by decide⟩ dX12_make_114 (by decide) (fun c114 => ?_) (fun c114 => ?_)
              · exact eMv hQ hx hb hr hlk hP hD hS (Nat.le_of_ble_eq_true rfl) (Nat.le_of_ble_eq_true rfl) dX12_make_149 (⟨rfl, by first | (exfalso; omega) | (have e1 : (ug (ρ 27) 0 y57_0) = mvw (m1 / 1000 % 10) (m1 % 10) (ρ 27) := (by funext i; by_cases i0 : i = 0; (subst i0; show y57_0 = mvw (m1 / 1000 % 10) (m1 % 10) (ρ 27) 0; rw [mvw_0]; split <;> omega); by_cases i1 : i = 1; (subst i1; show ρ 27 1 = mvw (m1 / 1000 % 10) (m1 % 10) (ρ 27) 1; rw [mvw_1]; split <;> omega); by_cases i2 : i = 2; (subst i2; show ρ 27 2 = mvw (m1 / 1000 % 10) (m1 % 10) (ρ 27) 2; rw [mvw_2]; split <;> omega); (rw [mvw_x i0 i1 i2, ug_n i0])); have e3 := congrArg (fun (a : Int → Int) => wM am ty τ (up (up ρ 27 a) 28 (ug (ug (ρ 28) 0 5) 1 5)) ++ cs) e1; exact e3)⟩)
              · refine lv_aload_n hx hb dX12_make_117 rfl (lv_at hl 5 rfl) ?_
                refine va_get (D := G) (ci := 11) (v := .ref (am 17)) (C := RX12) (T := TX12) (N := 52) hx hb hts in_X12 hown hK hP 0 (aM_0 _ _ _ _ _) rfl 28 (by decide) (hts _ q1293) (fun _ h9 => h9) rfl dX12_make_118 ?_
                refine li_iconst hx hb dX12_make_121 ?_
                refine lv_iload_n hx hb dX12_make_122 rfl (lv_at hl 7 rfl) ?_
                refine li_if_eq (tgt := 130) hx hb ⟨by decide, by decide⟩ dX12_make_123 (by decide) (fun c123 => ?_) (fun c123 => ?_)
                · exact absurd c123 (by decide)
                · refine li_iconst hx hb dX12_make_126 ?_
                  refine lv_goto (tgt := 132) hx hb dX12_make_127 (by decide) ?_
                  refine li_iast (g := (ug (ρ 28) ((m1 / 100) % 10) 5)) (W2 := wM am ty τ (up (up ρ 27 (ug (ρ 27) 0 y57_0)) 28 (ug (ug (ρ 28) ((m1 / 100) % 10) 5) 0 5)) ++ cs) hx hb hK hP hD hS 17 0 (aM_17 _ _ _ _ _) rfl (by decide) (by decide) (by decide) rfl dX12_make_132 (fun H locs hP hD hS => ?_)
                  refine lv_aload_n hx hb dX12_make_133 rfl (lv_at hl 5 rfl) ?_
                  refine va_get (D := G) (ci := 11) (v := .ref (am 17)) (C := RX12) (T := TX12) (N := 52) hx hb hts in_X12 hown hK hP 0 (aM_0 _ _ _ _ _) rfl 28 (by decide) (hts _ q1293) (fun _ h9 => h9) rfl dX12_make_134 ?_
                  refine li_iconst hx hb dX12_make_137 ?_
                  refine lv_iload_n hx hb dX12_make_138 rfl (lv_at hl 7 rfl) ?_
                  refine li_if_eq (tgt := 146) hx hb ⟨by decide, by decide⟩ dX12_make_139 (by decide) (fun c139 => ?_) (fun c139 => ?_)
                  · exact absurd c139 (by decide)
                  · refine li_iconst hx hb dX12_make_142 ?_
                    refine lv_goto (tgt := 148) hx hb dX12_make_143 (by decide) ?_
                    refine li_iast (g := (ug (ug (ρ 28) ((m1 / 100) % 10) 5) 0 5)) (W2 := wM am ty τ (up (up ρ 27 (ug (ρ 27) 0 y57_0)) 28 (ug (ug (ug (ρ 28) ((m1 / 100) % 10) 5) 0 5) 1 5)) ++ cs) hx hb hK hP hD hS 17 0 (aM_17 _ _ _ _ _) rfl (by decide) (by decide) (by decide) rfl dX12_make_148 (fun H locs hP hD hS => ?_)
                    exact eMv hQ hx hb hr hlk hP hD hS (Nat.le_of_ble_eq_true rfl) (Nat.le_of_ble_eq_true rfl) dX12_make_149 (⟨rfl, by first | (exfalso; omega) | (have e1 : (ug (ρ 27) 0 y57_0) = mvw (m1 / 1000 % 10) (m1 % 10) (ρ 27) := (by funext i; by_cases i0 : i = 0; (subst i0; show y57_0 = mvw (m1 / 1000 % 10) (m1 % 10) (ρ 27) 0; rw [mvw_0]; split <;> omega); by_cases i1 : i = 1; (subst i1; show ρ 27 1 = mvw (m1 / 1000 % 10) (m1 % 10) (ρ 27) 1; rw [mvw_1]; split <;> omega); by_cases i2 : i = 2; (subst i2; show ρ 27 2 = mvw (m1 / 1000 % 10) (m1 % 10) (ρ 27) 2; rw [mvw_2]; split <;> omega); (rw [mvw_x i0 i1 i2, ug_n i0])); have e3 := congrArg (fun (a : Int → Int) => wM am ty τ (up (up ρ 27 a) 28 (ug (ug (ρ 28) 0 5) 1 5)) ++ cs) e1; exact e3)⟩)
          · refine lv_aload_n hx hb dX12_make_90 rfl (lv_at hl 5 rfl) ?_
            refine va_get (D := G) (ci := 11) (v := .ref (am 17)) (C := RX12) (T := TX12) (N := 52) hx hb hts in_X12 hown hK hP 0 (aM_0 _ _ _ _ _) rfl 28 (by decide) (hts _ q1293) (fun _ h9 => h9) rfl dX12_make_91 ?_
            refine lv_iload hx hb dX12_make_94 (lv_at hl 2 rfl) ?_
            refine lv_iload hx hb dX12_make_96 (lv_at hl 1 rfl) ?_
            refine li_iast (g := (ρ 28)) (W2 := wM am ty τ (up (up ρ 27 (ug (ρ 27) 0 y57_0)) 28 (ug (ρ 28) ((m1 / 100) % 10) (m1 % 10))) ++ cs) hx hb hK hP hD hS 17 0 (aM_17 _ _ _ _ _) rfl (by omega) (by omega) (by decide) rfl dX12_make_98 (fun H locs hP hD hS => ?_)
            refine lv_iload_n hx hb dX12_make_99 rfl (lv_at hl 4 rfl) ?_
            refine li_iconst hx hb dX12_make_100 ?_
            refine li_icmp_ne (tgt := 112) hx hb ⟨by omega, by omega⟩ ⟨by decide, by decide⟩ dX12_make_101 (by decide) (fun c101 => ?_) (fun c101 => ?_)
            · refine lv_iload_n hx hb dX12_make_112 rfl (lv_at hl 4 rfl) ?_
              refine li_iconst hx hb dX12_make_113 ?_
              refine li_icmp_ne (tgt := 149) hx hb ⟨by omega, by omega⟩ ⟨by decide, by decide⟩ dX12_make_114 (by decide) (fun c114 => ?_) (fun c114 => ?_)
              · exact eMv hQ hx hb hr hlk hP hD hS (Nat.le_of_ble_eq_true rfl) (Nat.le_of_ble_eq_true rfl) dX12_make_149 (⟨rfl, by first | (exfalso; omega) | (have e1 : (ug (ρ 27) 0 y57_0) = mvw (m1 / 1000 % 10) (m1 % 10) (ρ 27) := (by funext i; by_cases i0 : i = 0; (subst i0; show y57_0 = mvw (m1 / 1000 % 10) (m1 % 10) (ρ 27) 0; rw [mvw_0]; split <;> omega); by_cases i1 : i = 1; (subst i1; show ρ 27 1 = mvw (m1 / 1000 % 10) (m1 % 10) (ρ 27) 1; rw [mvw_1]; split <;> omega); by_cases i2 : i = 2; (subst i2; show ρ 27 2 = mvw (m1 / 1000 % 10) (m1 % 10) (ρ 27) 2; rw [mvw_2]; split <;> omega); (rw [mvw_x i0 i1 i2, ug_n i0])); have e3 := congrArg (fun (a : Int → Int) => wM am ty τ (up (up ρ 27 a) 28 (ug (ug (ρ 28) 0 5) 1 5)) ++ cs) e1; exact e3)⟩)
              · refine lv_aload_n hx hb dX12_make_117 rfl (lv_at hl 5 rfl) ?_
                refine va_get (D := G) (ci := 11) (v := .ref (am 17)) (C := RX12) (T := TX12) (N := 52) hx hb hts in_X12 hown hK hP 0 (aM_0 _ _ _ _ _) rfl 28 (by decide) (hts _ q1293) (fun _ h9 => h9) rfl dX12_make_118 ?_
                refine li_iconst hx hb dX12_make_121 ?_
                refine lv_iload_n hx hb dX12_make_122 rfl (lv_at hl 7 rfl) ?_
                refine li_if_eq (tgt := 130) hx hb ⟨by decide, by decide⟩ dX12_make_123 (by decide) (fun c123 => ?_) (fun c123 => ?_)
                · exact absurd c123 (by decide)
                · refine li_iconst hx hb dX12_make_126 ?_
                  refine lv_goto (tgt := 132) hx hb dX12_make_127 (by decide) ?_
                  refine li_iast (g := (ug (ρ 28) ((m1 / 100) % 10) (m1 % 10))) (W2 := wM am ty τ (up (up ρ 27 (ug (ρ 27) 0 y57_0)) 28 (ug (ug (ρ 28) ((m1 / 100) % 10) (m1 % 10)) 0 5)) ++ cs) hx hb hK hP hD hS 17 0 (aM_17 _ _ _ _ _) rfl (by decide) (by decide) (by decide) rfl dX12_make_132 (fun H locs hP hD hS => ?_)
                  refine lv_aload_n hx hb dX12_make_133 rfl (lv_at hl 5 rfl) ?_
                  refine va_get (D := G) (ci := 11) (v := .ref (am 17)) (C := RX12) (T := TX12) (N := 52) hx hb hts in_X12 hown hK hP 0 (aM_0 _ _ _ _ _) rfl 28 (by decide) (hts _ q1293) (fun _ h9 => h9) rfl dX12_make_134 ?_
                  refine li_iconst hx hb dX12_make_137 ?_
                  refine lv_iload_n hx hb dX12_make_138 rfl (lv_at hl 7 rfl) ?_
                  refine li_if_eq (tgt := 146) hx hb ⟨by decide, by decide⟩ dX12_make_139 (by decide) (fun c139 => ?_) (fun c139 => ?_)
                  · exact absurd c139 (by decide)
                  · refine li_iconst hx hb dX12_make_142 ?_
                    refine lv_goto (tgt := 148) hx hb dX12_make_143 (by decide) ?_
                    refine li_iast (g := (ug (ug (ρ 28) ((m1 / 100) % 10) (m1 % 10)) 0 5)) (W2 := wM am ty τ (up (up ρ 27 (ug (ρ 27) 0 y57_0)) 28 (ug (ug (ug (ρ 28) ((m1 / 100) % 10) (m1 % 10)) 0 5) 1 5)) ++ cs) hx hb hK hP hD hS 17 0 (aM_17 _ _ _ _ _) rfl (by decide) (by decide) (by decide) rfl dX12_make_148 (fun H locs hP hD hS => ?_)
                    exact eMv hQ hx hb hr hlk hP hD hS (Nat.le_of_ble_eq_true rfl) (Nat.le_of_ble_eq_true rfl) dX12_make_149 (⟨rfl, by first | (exfalso; omega) | (have e1 : (ug (ρ 27) 0 y57_0) = mvw (m1 / 1000 % 10) (m1 % 10) (ρ 27) := (by funext i; by_cases i0 : i = 0; (subst i0; show y57_0 = mvw (m1 / 1000 % 10) (m1 % 10) (ρ 27) 0; rw [mvw_0]; split <;> omega); by_cases i1 : i = 1; (subst i1; show ρ 27 1 = mvw (m1 / 1000 % 10) (m1 % 10) (ρ 27) 1; rw [mvw_1]; split <;> omega); by_cases i2 : i = 2; (subst i2; show ρ 27 2 = mvw (m1 / 1000 % 10) (m1 % 10) (ρ 27) 2; rw [mvw_2]; split <;> omega); (rw [mvw_x i0 i1 i2, ug_n i0])); have e3 := congrArg (fun (a : Int → Int) => wM am ty τ (up (up ρ 27 a) 28 (ug (ug (ρ 28) 0 5) 1 5)) ++ cs) e1; exact e3)⟩)
            · refine lv_aload_n hx hb dX12_make_104 rfl (lv_at hl 5 rfl) ?_
              refine va_get (D := G) (ci := 11) (v := .ref (am 17)) (C := RX12) (T := TX12) (N := 52) hx hb hts in_X12 hown hK hP 0 (aM_0 _ _ _ _ _) rfl 28 (by decide) (hts _ q1293) (fun _ h9 => h9) rfl dX12_make_105 ?_
              refine lv_iload hx hb dX12_make_108 (lv_at hl 2 rfl) ?_
              refine li_iconst hx hb dX12_make_110 ?_
              refine li_iast (g := (ug (ρ 28) ((m1 / 100) % 10) (m1 % 10))) (W2 := wM am ty τ (up (up ρ 27 (ug (ρ 27) 0 y57_0)) 28 (ug (ug (ρ 28) ((m1 / 100) % 10) (m1 % 10)) ((m1 / 100) % 10) 5)) ++ cs) hx hb hK hP hD hS 17 0 (aM_17 _ _ _ _ _) rfl (by omega) (by omega) (by decide) rfl dX12_make_111 (fun H locs hP hD hS => ?_)
              refine lv_iload_n hx hb dX12_make_112 rfl (lv_at hl 4 rfl) ?_
              refine li_iconst hx hb dX12_make_113 ?_
              refine li_icmp_ne (tgt := 149) hx hb ⟨by omega, by omega⟩ ⟨by decide, by decide⟩ dX12_make_114 (by decide) (fun c114 => ?_) (fun c114 => ?_)
              · exact eMv hQ hx hb hr hlk hP hD hS (Nat.le_of_ble_eq_true rfl) (Nat.le_of_ble_eq_true rfl) dX12_make_149 (⟨rfl, by first | (exfalso; omega) | (have e1 : (ug (ρ 27) 0 y57_0) = mvw (m1 / 1000 % 10) (m1 % 10) (ρ 27) := (by funext i; by_cases i0 : i = 0; (subst i0; show y57_0 = mvw (m1 / 1000 % 10) (m1 % 10) (ρ 27) 0; rw [mvw_0]; split <;> omega); by_cases i1 : i = 1; (subst i1; show ρ 27 1 = mvw (m1 / 1000 % 10) (m1 % 10) (ρ 27) 1; rw [mvw_1]; split <;> omega); by_cases i2 : i = 2; (subst i2; show ρ 27 2 = mvw (m1 / 1000 % 10) (m1 % 10) (ρ 27) 2; rw [mvw_2]; split <;> omega); (rw [mvw_x i0 i1 i2, ug_n i0])); have e3 := congrArg (fun (a : Int → Int) => wM am ty τ (up (up ρ 27 a) 28 (ug (ug (ρ 28) 0 5) 1 5)) ++ cs) e1; exact e3)⟩)
              · refine lv_aload_n hx hb dX12_make_117 rfl (lv_at hl 5 rfl) ?_
                refine va_get (D := G) (ci := 11) (v := .ref (am 17)) (C := RX12) (T := TX12) (N := 52) hx hb hts in_X12 hown hK hP 0 (aM_0 _ _ _ _ _) rfl 28 (by decide) (hts _ q1293) (fun _ h9 => h9) rfl dX12_make_118 ?_
                refine li_iconst hx hb dX12_make_121 ?_
                refine lv_iload_n hx hb dX12_make_122 rfl (lv_at hl 7 rfl) ?_
                refine li_if_eq (tgt := 130) hx hb ⟨by decide, by decide⟩ dX12_make_123 (by decide) (fun c123 => ?_) (fun c123 => ?_)
                · exact absurd c123 (by decide)
                · refine li_iconst hx hb dX12_make_126 ?_
                  refine lv_goto (tgt := 132) hx hb dX12_make_127 (by decide) ?_
                  refine li_iast (g := (ug (ug (ρ 28) ((m1 / 100) % 10) (m1 % 10)) ((m1 / 100) % 10) 5)) (W2 := wM am ty τ (up (up ρ 27 (ug (ρ 27) 0 y57_0)) 28 (ug (ug (ug (ρ 28) ((m1 / 100) % 10) (m1 % 10)) ((m1 / 100) % 10) 5) 0 5)) ++ cs) hx hb hK hP hD hS 17 0 (aM_17 _ _ _ _ _) rfl (by decide) (by decide) (by decide) rfl dX12_make_132 (fun H locs hP hD hS => ?_)
                  refine lv_aload_n hx hb dX12_make_133 rfl (lv_at hl 5 rfl) ?_
                  refine va_get (D := G) (ci := 11) (v := .ref (am 17)) (C := RX12) (T := TX12) (N := 52) hx hb hts in_X12 hown hK hP 0 (aM_0 _ _ _ _ _) rfl 28 (by decide) (hts _ q1293) (fun _ h9 => h9) rfl dX12_make_134 ?_
                  refine li_iconst hx hb dX12_make_137 ?_
                  refine lv_iload_n hx hb dX12_make_138 rfl (lv_at hl 7 rfl) ?_
                  refine li_if_eq (tgt := 146) hx hb ⟨by decide, by decide⟩ dX12_make_139 (by decide) (fun c139 => ?_) (fun c139 => ?_)
                  · exact absurd c139 (by decide)
                  · refine li_iconst hx hb dX12_make_142 ?_
                    refine lv_goto (tgt := 148) hx hb dX12_make_143 (by decide) ?_
                    refine li_iast (g := (ug (ug (ug (ρ 28) ((m1 / 100) % 10) (m1 % 10)) ((m1 / 100) % 10) 5) 0 5)) (W2 := wM am ty τ (up (up ρ 27 (ug (ρ 27) 0 y57_0)) 28 (ug (ug (ug (ug (ρ 28) ((m1 / 100) % 10) (m1 % 10)) ((m1 / 100) % 10) 5) 0 5) 1 5)) ++ cs) hx hb hK hP hD hS 17 0 (aM_17 _ _ _ _ _) rfl (by decide) (by decide) (by decide) rfl dX12_make_148 (fun H locs hP hD hS => ?_)
                    exact eMv hQ hx hb hr hlk hP hD hS (Nat.le_of_ble_eq_true rfl) (Nat.le_of_ble_eq_true rfl) dX12_make_149 (⟨rfl, by first | (exfalso; omega) | (have e1 : (ug (ρ 27) 0 y57_0) = mvw (m1 / 1000 % 10) (m1 % 10) (ρ 27) := (by funext i; by_cases i0 : i = 0; (subst i0; show y57_0 = mvw (m1 / 1000 % 10) (m1 % 10) (ρ 27) 0; rw [mvw_0]; split <;> omega); by_cases i1 : i = 1; (subst i1; show ρ 27 1 = mvw (m1 / 1000 % 10) (m1 % 10) (ρ 27) 1; rw [mvw_1]; split <;> omega); by_cases i2 : i = 2; (subst i2; show ρ 27 2 = mvw (m1 / 1000 % 10) (m1 % 10) (ρ 27) 2; rw [mvw_2]; split <;> omega); (rw [mvw_x i0 i1 i2, ug_n i0])); have e3 := congrArg (fun (a : Int → Int) => wM am ty τ (up (up ρ 27 a) 28 (ug (ug (ρ 28) 0 5) 1 5)) ++ cs) e1; exact e3)⟩)
      · refine lv_aload_n hx hb dX12_make_43 rfl (lv_at hl 5 rfl) ?_
        refine va_get (D := G) (ci := 11) (v := .ref (am 16)) (C := RX12) (T := TX12) (N := 52) hx hb hts in_X12 hown hK hP 0 (aM_0 _ _ _ _ _) rfl 27 (by decide) (hts _ q1292) (fun _ h9 => h9) rfl dX12_make_44 ?_
        refine lv_iload hx hb dX12_make_47 (lv_at hl 0 rfl) ?_
        refine lv_iload hx hb dX12_make_49 (lv_at hl 3 rfl) ?_
        refine lv_iload hx hb dX12_make_51 (lv_at hl 0 rfl) ?_
        refine lv_ishr hx hb dX12_make_53 ?_
        refine li_topx (z := (m1 / 1000) % 10 / 2) (ii_shr1 (by omega) (by omega)) ?_
        refine li_iconst hx hb dX12_make_54 ?_
        refine lv_iand hx hb dX12_make_55 ?_
        refine li_topx (z := ((m1 / 1000) % 10 / 2) % 2) (ii_and1 (by omega) (by omega)) ?_
        refine li_iconst hx hb dX12_make_56 ?_
        have J57_1 : ∀ (y57_1_0 : Int) (_ : ((¬ (((m1 / 1000) % 10 / 2) % 2) = 1) ∧ y57_1_0 = (ug (ρ 27) 0 y57_0) 1) ∨ (((((m1 / 1000) % 10 / 2) % 2) = 1) ∧ y57_1_0 = m1 % 10)) (H : Heap) (locs : List Loc) (_ : va_P G gcl (wM am ty τ (up ρ 27 (ug (ρ 27) 0 y57_0)) ++ cs) H) (_ : va_D A (wM am ty τ (up ρ 27 (ug (ρ 27) 0 y57_0)) ++ cs)) (_ : va_S A s.heap H locs) (ls : Array Slot), lv_has ls 8 [(7, .int (ii 1)), (6, .int (ii (m1 % 10))), (5, .int (ii ((m1 / 100) % 10))), (4, .int (ii ((m1 / 1000) % 10))), (3, .int (ii (m1 / 10000))), (0, .ref (am 0)), (1, .int (ii m1)), (2, .int (ii 1))] → W p l e (rm4 0 0 0 0) s m args below meth c H locs 0 0 Q (F0 m 72 ls [.int (ii y57_1_0), .int (ii 1), .ref (am 16)]) := by
          intro y57_1_0 hj57_1 H locs hP hD hS ls hl
          refine li_iast (g := (ug (ρ 27) 0 y57_0)) (W2 := wM am ty τ (up ρ 27 (ug (ug (ρ 27) 0 y57_0) 1 y57_1_0)) ++ cs) hx hb hK hP hD hS 16 0 (aM_16 _ _ _ _ _) rfl (by decide) (by decide) (by decide) rfl dX12_make_72 (fun H locs hP hD hS => ?_)
          refine li_iinc (a := 1) (lv' := [(7, .int (ii 2)), (6, .int (ii (m1 % 10))), (5, .int (ii ((m1 / 100) % 10))), (4, .int (ii ((m1 / 1000) % 10))), (3, .int (ii (m1 / 10000))), (0, .ref (am 0)), (1, .int (ii m1)), (2, .int (ii 1))]) hx hb dX12_make_73 hl (k := 0) rfl (by decide) rfl (fun ls hl => ?_)
          refine lv_goto (tgt := 34) hx hb dX12_make_76 (by decide) ?_
          refine lv_iload hx hb dX12_make_34 (lv_at hl 0 rfl) ?_
          refine lv_aload_n hx hb dX12_make_36 rfl (lv_at hl 5 rfl) ?_
          refine va_get (D := G) (ci := 11) (v := .int (ii (τ 5 0))) (C := RX12) (T := TX12) (N := 52) hx hb hts in_X12 hown hK hP 0 (aM_0 _ _ _ _ _) rfl 5 (by decide) (hts _ q1270) (fun _ h9 => h9) rfl dX12_make_37 ?_
          refine li_icmp_ge (tgt := 79) hx hb ⟨by decide, by decide⟩ ⟨by omega, by omega⟩ dX12_make_40 (by decide) (fun c40 => ?_) (fun c40 => ?_)
          · refine lv_iload_n hx hb dX12_make_79 rfl (lv_at hl 4 rfl) ?_
            refine li_iconst hx hb dX12_make_80 ?_
            refine li_icmp_eq (tgt := 90) hx hb ⟨by omega, by omega⟩ ⟨by decide, by decide⟩ dX12_make_81 (by decide) (fun c81 => ?_) (fun c81 => ?_)
            · refine lv_aload_n hx hb dX12_make_90 rfl (lv_at hl 5 rfl) ?_
              refine va_get (D := G) (ci := 11) (v := .ref (am 17)) (C := RX12) (T := TX12) (N := 52) hx hb hts in_X12 hown hK hP 0 (aM_0 _ _ _ _ _) rfl 28 (by decide) (hts _ q1293) (fun _ h9 => h9) rfl dX12_make_91 ?_
              refine lv_iload hx hb dX12_make_94 (lv_at hl 2 rfl) ?_
              refine lv_iload hx hb dX12_make_96 (lv_at hl 1 rfl) ?_
              refine li_iast (g := (ρ 28)) (W2 := wM am ty τ (up (up ρ 27 (ug (ug (ρ 27) 0 y57_0) 1 y57_1_0)) 28 (ug (ρ 28) ((m1 / 100) % 10) (m1 % 10))) ++ cs) hx hb hK hP hD hS 17 0 (aM_17 _ _ _ _ _) rfl (by omega) (by omega) (by decide) rfl dX12_make_98 (fun H locs hP hD hS => ?_)
              refine lv_iload_n hx hb dX12_make_99 rfl (lv_at hl 4 rfl) ?_
              refine li_iconst hx hb dX12_make_100 ?_
              refine li_icmp_ne (tgt := 112) hx hb ⟨by omega, by omega⟩ ⟨by decide, by decide⟩ dX12_make_101 (by decide) (fun c101 => ?_) (fun c101 => ?_)
              · refine lv_iload_n hx hb dX12_make_112 rfl (lv_at hl 4 rfl) ?_
                refine li_iconst hx hb dX12_make_113 ?_
                refine li_icmp_ne (tgt := 149) hx hb ⟨by omega, by omega⟩ ⟨by decide, by decide⟩ dX12_make_114 (by decide) (fun c114 => ?_) (fun c114 => ?_)
                · exact eMv hQ hx hb hr hlk hP hD hS (Nat.le_of_ble_eq_true rfl) (Nat.le_of_ble_eq_true rfl) dX12_make_149 (⟨rfl, by first | (exfalso; omega) | (have e1 : (ug (ug (ρ 27) 0 y57_0) 1 y57_1_0) = mvw (m1 / 1000 % 10) (m1 % 10) (ρ 27) := (by have u1 : (ug (ρ 27) 0 y57_0) 1 = ρ 27 1 := rfl; funext i; by_cases i0 : i = 0; (subst i0; show y57_0 = mvw (m1 / 1000 % 10) (m1 % 10) (ρ 27) 0; rw [mvw_0]; split <;> omega); by_cases i1 : i = 1; (subst i1; show y57_1_0 = mvw (m1 / 1000 % 10) (m1 % 10) (ρ 27) 1; rw [mvw_1]; split <;> omega); by_cases i2 : i = 2; (subst i2; show ρ 27 2 = mvw (m1 / 1000 % 10) (m1 % 10) (ρ 27) 2; rw [mvw_2]; split <;> omega); (rw [mvw_x i0 i1 i2, ug_n i1, ug_n i0])); have e3 := congrArg (fun (a : Int → Int) => wM am ty τ (up (up ρ 27 a) 28 (ug (ug (ρ 28) 0 5) 1 5)) ++ cs) e1; exact e3)⟩)
                · refine lv_aload_n hx hb dX12_make_117 rfl (lv_at hl 5 rfl) ?_
                  refine va_get (D := G) (ci := 11) (v := .ref (am 17)) (C := RX12) (T := TX12) (N := 52) hx hb hts in_X12 hown hK hP 0 (aM_0 _ _ _ _ _) rfl 28 (by decide) (hts _ q1293) (fun _ h9 => h9) rfl dX12_make_118 ?_
                  refine li_iconst hx hb dX12_make_121 ?_
                  refine lv_iload_n hx hb dX12_make_122 rfl (lv_at hl 7 rfl) ?_
                  refine li_if_eq (tgt := 130) hx hb ⟨by decide, by decide⟩ dX12_make_123 (by decide) (fun c123 => ?_) (fun c123 => ?_)
                  · exact absurd c123 (by decide)
                  · refine li_iconst hx hb dX12_make_126 ?_
                    refine lv_goto (tgt := 132) hx hb dX12_make_127 (by decide) ?_
                    refine li_iast (g := (ug (ρ 28) ((m1 / 100) % 10) (m1 % 10))) (W2 := wM am ty τ (up (up ρ 27 (ug (ug (ρ 27) 0 y57_0) 1 y57_1_0)) 28 (ug (ug (ρ 28) ((m1 / 100) % 10) (m1 % 10)) 0 5)) ++ cs) hx hb hK hP hD hS 17 0 (aM_17 _ _ _ _ _) rfl (by decide) (by decide) (by decide) rfl dX12_make_132 (fun H locs hP hD hS => ?_)
                    refine lv_aload_n hx hb dX12_make_133 rfl (lv_at hl 5 rfl) ?_
                    refine va_get (D := G) (ci := 11) (v := .ref (am 17)) (C := RX12) (T := TX12) (N := 52) hx hb hts in_X12 hown hK hP 0 (aM_0 _ _ _ _ _) rfl 28 (by decide) (hts _ q1293) (fun _ h9 => h9) rfl dX12_make_134 ?_
                    refine li_iconst hx hb dX12_make_137 ?_
                    refine lv_iload_n hx hb dX12_make_138 rfl (lv_at hl 7 rfl) ?_
                    refine li_if_eq (tgt := 146) hx hb ⟨by decide, by decide⟩ dX12_make_139 (by decide) (fun c139 => ?_) (fun c139 => ?_)
                    · exact absurd c139 (by decide)
                    · refine li_iconst hx hb dX12_make_142 ?_
                      refine lv_goto (tgt := 148) hx hb dX12_make_143 (by decide) ?_
                      refine li_iast (g := (ug (ug (ρ 28) ((m1 / 100) % 10) (m1 % 10)) 0 5)) (W2 := wM am ty τ (up (up ρ 27 (ug (ug (ρ 27) 0 y57_0) 1 y57_1_0)) 28 (ug (ug (ug (ρ 28) ((m1 / 100) % 10) (m1 % 10)) 0 5) 1 5)) ++ cs) hx hb hK hP hD hS 17 0 (aM_17 _ _ _ _ _) rfl (by decide) (by decide) (by decide) rfl dX12_make_148 (fun H locs hP hD hS => ?_)
                      exact eMv hQ hx hb hr hlk hP hD hS (Nat.le_of_ble_eq_true rfl) (Nat.le_of_ble_eq_true rfl) dX12_make_149 (⟨rfl, by first | (exfalso; omega) | (have e1 : (ug (ug (ρ 27) 0 y57_0) 1 y57_1_0) = mvw (m1 / 1000 % 10) (m1 % 10) (ρ 27) := (by have u1 : (ug (ρ 27) 0 y57_0) 1 = ρ 27 1 := rfl; funext i; by_cases i0 : i = 0; (subst i0; show y57_0 = mvw (m1 / 1000 % 10) (m1 % 10) (ρ 27) 0; rw [mvw_0]; split <;> omega); by_cases i1 : i = 1; (subst i1; show y57_1_0 = mvw (m1 / 1000 % 10) (m1 % 10) (ρ 27) 1; rw [mvw_1]; split <;> omega); by_cases i2 : i = 2; (subst i2; show ρ 27 2 = mvw (m1 / 1000 % 10) (m1 % 10) (ρ 27) 2; rw [mvw_2]; split <;> omega); (rw [mvw_x i0 i1 i2, ug_n i1, ug_n i0])); have e3 := congrArg (fun (a : Int → Int) => wM am ty τ (up (up ρ 27 a) 28 (ug (ug (ρ 28) 0 5) 1 5)) ++ cs) e1; exact e3)⟩)
              · refine lv_aload_n hx hb dX12_make_104 rfl (lv_at hl 5 rfl) ?_
                refine va_get (D := G) (ci := 11) (v := .ref (am 17)) (C := RX12) (T := TX12) (N := 52) hx hb hts in_X12 hown hK hP 0 (aM_0 _ _ _ _ _) rfl 28 (by decide) (hts _ q1293) (fun _ h9 => h9) rfl dX12_make_105 ?_
                refine lv_iload hx hb dX12_make_108 (lv_at hl 2 rfl) ?_
                refine li_iconst hx hb dX12_make_110 ?_
                refine li_iast (g := (ug (ρ 28) ((m1 / 100) % 10) (m1 % 10))) (W2 := wM am ty τ (up (up ρ 27 (ug (ug (ρ 27) 0 y57_0) 1 y57_1_0)) 28 (ug (ug (ρ 28) ((m1 / 100) % 10) (m1 % 10)) ((m1 / 100) % 10) 5)) ++ cs) hx hb hK hP hD hS 17 0 (aM_17 _ _ _ _ _) rfl (by omega) (by omega) (by decide) rfl dX12_make_111 (fun H locs hP hD hS => ?_)
                refine lv_iload_n hx hb dX12_make_112 rfl (lv_at hl 4 rfl) ?_
                refine li_iconst hx hb dX12_make_113 ?_
                refine li_icmp_ne (tgt := 149) hx hb ⟨by omega, by omega⟩ ⟨by decide, by decide⟩ dX12_make_114 (by decide) (fun c114 => ?_) (fun c114 => ?_)
                · exact eMv hQ hx hb hr hlk hP hD hS (Nat.le_of_ble_eq_true rfl) (Nat.le_of_ble_eq_true rfl) dX12_make_149 (⟨rfl, by first | (exfalso; omega) | (have e1 : (ug (ug (ρ 27) 0 y57_0) 1 y57_1_0) = mvw (m1 / 1000 % 10) (m1 % 10) (ρ 27) := (by have u1 : (ug (ρ 27) 0 y57_0) 1 = ρ 27 1 := rfl; funext i; by_cases i0 : i = 0; (subst i0; show y57_0 = mvw (m1 / 1000 % 10) (m1 % 10) (ρ 27) 0; rw [mvw_0]; split <;> omega); by_cases i1 : i = 1; (subst i1; show y57_1_0 = mvw (m1 / 1000 % 10) (m1 % 10) (ρ 27) 1; rw [mvw_1]; split <;> omega); by_cases i2 : i = 2; (subst i2; show ρ 27 2 = mvw (m1 / 1000 % 10) (m1 % 10) (ρ 27) 2; rw [mvw_2]; split <;> omega); (rw [mvw_x i0 i1 i2, ug_n i1, ug_n i0])); have e3 := congrArg (fun (a : Int → Int) => wM am ty τ (up (up ρ 27 a) 28 (ug (ug (ρ 28) 0 5) 1 5)) ++ cs) e1; exact e3)⟩)
                · refine lv_aload_n hx hb dX12_make_117 rfl (lv_at hl 5 rfl) ?_
                  refine va_get (D := G) (ci := 11) (v := .ref (am 17)) (C := RX12) (T := TX12) (N := 52) hx hb hts in_X12 hown hK hP 0 (aM_0 _ _ _ _ _) rfl 28 (by decide) (hts _ q1293) (fun _ h9 => h9) rfl dX12_make_118 ?_
                  refine li_iconst hx hb dX12_make_121 ?_
                  refine lv_iload_n hx hb dX12_make_122 rfl (lv_at hl 7 rfl) ?_
                  refine li_if_eq (tgt := 130) hx hb ⟨by decide, by decide⟩ dX12_make_123 (by decide) (fun c123 => ?_) (fun c123 => ?_)
                  · exact absurd c123 (by decide)
                  · refine li_iconst hx hb dX12_make_126 ?_
                    refine lv_goto (tgt := 132) hx hb dX12_make_127 (by decide) ?_
                    refine li_iast (g := (ug (ug (ρ 28) ((m1 / 100) % 10) (m1 % 10)) ((m1 / 100) % 10) 5)) (W2 := wM am ty τ (up (up ρ 27 (ug (ug (ρ 27) 0 y57_0) 1 y57_1_0)) 28 (ug (ug (ug (ρ 28) ((m1 / 100) % 10) (m1 % 10)) ((m1 / 100) % 10) 5) 0 5)) ++ cs) hx hb hK hP hD hS 17 0 (aM_17 _ _ _ _ _) rfl (by decide) (by decide) (by decide) rfl dX12_make_132 (fun H locs hP hD hS => ?_)
                    refine lv_aload_n hx hb dX12_make_133 rfl (lv_at hl 5 rfl) ?_
                    refine va_get (D := G) (ci := 11) (v := .ref (am 17)) (C := RX12) (T := TX12) (N := 52) hx hb hts in_X12 hown hK hP 0 (aM_0 _ _ _ _ _) rfl 28 (by decide) (hts _ q1293) (fun _ h9 => h9) rfl dX12_make_134 ?_
                    refine li_iconst hx hb dX12_make_137 ?_
                    refine lv_iload_n hx hb dX12_make_138 rfl (lv_at hl 7 rfl) ?_
                    refine li_if_eq (tgt := 146) hx hb ⟨by decide, by decide⟩ dX12_make_139 (by decide) (fun c139 => ?_) (fun c139 => ?_)
                    · exact absurd c139 (by decide)
                    · refine li_iconst hx hb dX12_make_142 ?_
                      refine lv_goto (tgt := 148) hx hb dX12_make_143 (by decide) ?_
                      refine li_iast (g := (ug (ug (ug (ρ 28) ((m1 / 100) % 10) (m1 % 10)) ((m1 / 100) % 10) 5) 0 5)) (W2 := wM am ty τ (up (up ρ 27 (ug (ug (ρ 27) 0 y57_0) 1 y57_1_0)) 28 (ug (ug (ug (ug (ρ 28) ((m1 / 100) % 10) (m1 % 10)) ((m1 / 100) % 10) 5) 0 5) 1 5)) ++ cs) hx hb hK hP hD hS 17 0 (aM_17 _ _ _ _ _) rfl (by decide) (by decide) (by decide) rfl dX12_make_148 (fun H locs hP hD hS => ?_)
                      exact eMv hQ hx hb hr hlk hP hD hS (Nat.le_of_ble_eq_true rfl) (Nat.le_of_ble_eq_true rfl) dX12_make_149 (⟨rfl, by first | (exfalso; omega) | (have e1 : (ug (ug (ρ 27) 0 y57_0) 1 y57_1_0) = mvw (m1 / 1000 % 10) (m1 % 10) (ρ 27) := (by have u1 : (ug (ρ 27) 0 y57_0) 1 = ρ 27 1 := rfl; funext i; by_cases i0 : i = 0; (subst i0; show y57_0 = mvw (m1 / 1000 % 10) (m1 % 10) (ρ 27) 0; rw [mvw_0]; split <;> omega); by_cases i1 : i = 1; (subst i1; show y57_1_0 = mvw (m1 / 1000 % 10) (m1 % 10) (ρ 27) 1; rw [mvw_1]; split <;> omega); by_cases i2 : i = 2; (subst i2; show ρ 27 2 = mvw (m1 / 1000 % 10) (m1 % 10) (ρ 27) 2; rw [mvw_2]; split <;> omega); (rw [mvw_x i0 i1 i2, ug_n i1, ug_n i0])); have e3 := congrArg (fun (a : Int → Int) => wM am ty τ (up (up ρ 27 a) 28 (ug (ug (ρ 28) 0 5) 1 5)) ++ cs) e1; exact e3)⟩)
            · refine lv_iload_n hx hb dX12_make_84 rfl (lv_at hl 4 rfl) ?_
              refine li_bipush hx hb dX12_make_85 (by decide) ?_
              refine li_icmp_ne (tgt := 99) hx hb ⟨by omega, by omega⟩ ⟨by decide, by decide⟩ dX12_make_87 (by decide) (fun c87 => ?_) (fun c87 => ?_)
              · refine lv_iload_n hx hb dX12_make_99 rfl (lv_at hl 4 rfl) ?_
                refine li_iconst hx hb dX12_make_100 ?_
                refine li_icmp_ne (tgt := 112) hx hb ⟨by omega, by omega⟩ ⟨by decide, by decide⟩ dX12_make_101 (by decide) (fun c101 => ?_) (fun c101 => ?_)
                · refine lv_iload_n hx hb dX12_make_112 rfl (lv_at hl 4 rfl) ?_
                  refine li_iconst hx hb dX12_make_113 ?_
                  refine li_icmp_ne (tgt := 149) hx hb ⟨by omega, by omega⟩ ⟨by decide, by decide⟩ dX12_make_114 (by decide) (fun c114 => ?_) (fun c114 => ?_)
                  · exact eMv hQ hx hb hr hlk hP hD hS (Nat.le_of_ble_eq_true rfl) (Nat.le_of_ble_eq_true rfl) dX12_make_149 (⟨rfl, by first | (exfalso; omega) | (have e1 : (ug (ug (ρ 27) 0 y57_0) 1 y57_1_0) = mvw (m1 / 1000 % 10) (m1 % 10) (ρ 27) := (by have u1 : (ug (ρ 27) 0 y57_0) 1 = ρ 27 1 := rfl; funext i; by_cases i0 : i = 0; (subst i0; show y57_0 = mvw (m1 / 1000 % 10) (m1 % 10) (ρ 27) 0; rw [mvw_0]; split <;> omega); by_cases i1 : i = 1; (subst i1; show y57_1_0 = mvw (m1 / 1000 % 10) (m1 % 10) (ρ 27) 1; rw [mvw_1]; split <;> omega); by_cases i2 : i = 2; (subst i2; show ρ 27 2 = mvw (m1 / 1000 % 10) (m1 % 10) (ρ 27) 2; rw [mvw_2]; split <;> omega); (rw [mvw_x i0 i1 i2, ug_n i1, ug_n i0])); have e3 := congrArg (fun (a : Int → Int) => wM am ty τ (up (up ρ 27 a) 28 (ug (ug (ρ 28) 0 5) 1 5)) ++ cs) e1; exact e3)⟩)
                  · refine lv_aload_n hx hb dX12_make_117 rfl (lv_at hl 5 rfl) ?_
                    refine va_get (D := G) (ci := 11) (v := .ref (am 17)) (C := RX12) (T := TX12) (N := 52) hx hb hts in_X12 hown hK hP 0 (aM_0 _ _ _ _ _) rfl 28 (by decide) (hts _ q1293) (fun _ h9 => h9) rfl dX12_make_118 ?_
                    refine li_iconst hx hb dX12_make_121 ?_
                    refine lv_iload_n hx hb dX12_make_122 rfl (lv_at hl 7 rfl) ?_
                    refine li_if_eq (tgt := 130) hx hb ⟨by decide, by decide⟩ dX12_make_123 (by decide) (fun c123 => ?_) (fun c123 => ?_)
                    · exact absurd c123 (by decide)
                    · refine li_iconst hx hb dX12_make_126 ?_
                      refine lv_goto (tgt := 132) hx hb dX12_make_127 (by decide) ?_
                      refine li_iast (g := (ρ 28)) (W2 := wM am ty τ (up (up ρ 27 (ug (ug (ρ 27) 0 y57_0) 1 y57_1_0)) 28 (ug (ρ 28) 0 5)) ++ cs) hx hb hK hP hD hS 17 0 (aM_17 _ _ _ _ _) rfl (by decide) (by decide) (by decide) rfl dX12_make_132 (fun H locs hP hD hS => ?_)
                      refine lv_aload_n hx hb dX12_make_133 rfl (lv_at hl 5 rfl) ?_
                      refine va_get (D := G) (ci := 11) (v := .ref (am 17)) (C := RX12) (T := TX12) (N := 52) hx hb hts in_X12 hown hK hP 0 (aM_0 _ _ _ _ _) rfl 28 (by decide) (hts _ q1293) (fun _ h9 => h9) rfl dX12_make_134 ?_
                      refine li_iconst hx hb dX12_make_137 ?_
                      refine lv_iload_n hx hb dX12_make_138 rfl (lv_at hl 7 rfl) ?_
                      refine li_if_eq (tgt := 146) hx hb ⟨by decide, by decide⟩ dX12_make_139 (by decide) (fun c139 => ?_) (fun c139 => ?_)
                      · exact absurd c139 (by decide)
                      · refine li_iconst hx hb dX12_make_142 ?_
                        refine lv_goto (tgt := 148) hx hb dX12_make_143 (by decide) ?_
                        refine li_iast (g := (ug (ρ 28) 0 5)) (W2 := wM am ty τ (up (up ρ 27 (ug (ug (ρ 27) 0 y57_0) 1 y57_1_0)) 28 (ug (ug (ρ 28) 0 5) 1 5)) ++ cs) hx hb hK hP hD hS 17 0 (aM_17 _ _ _ _ _) rfl (by decide) (by decide) (by decide) rfl dX12_make_148 (fun H locs hP hD hS => ?_)
                        exact eMv hQ hx hb hr hlk hP hD hS (Nat.le_of_ble_eq_true rfl) (Nat.le_of_ble_eq_true rfl) dX12_make_149 (⟨rfl, by first | (exfalso; omega) | (have e1 : (ug (ug (ρ 27) 0 y57_0) 1 y57_1_0) = mvw (m1 / 1000 % 10) (m1 % 10) (ρ 27) := (by have u1 : (ug (ρ 27) 0 y57_0) 1 = ρ 27 1 := rfl; funext i; by_cases i0 : i = 0; (subst i0; show y57_0 = mvw (m1 / 1000 % 10) (m1 % 10) (ρ 27) 0; rw [mvw_0]; split <;> omega); by_cases i1 : i = 1; (subst i1; show y57_1_0 = mvw (m1 / 1000 % 10) (m1 % 10) (ρ 27) 1; rw [mvw_1]; split <;> omega); by_cases i2 : i = 2; (subst i2; show ρ 27 2 = mvw (m1 / 1000 % 10) (m1 % 10) (ρ 27) 2; rw [mvw_2]; split <;> omega); (rw [mvw_x i0 i1 i2, ug_n i1, ug_n i0])); have e3 := congrArg (fun (a : Int → Int) => wM am ty τ (up (up ρ 27 a) 28 (ug (ug (ρ 28) 0 5) 1 5)) ++ cs) e1; exact e3)⟩)
                · refine lv_aload_n hx hb dX12_make_104 rfl (lv_at hl 5 rfl) ?_
                  refine va_get (D := G) (ci := 11) (v := .ref (am 17)) (C := RX12) (T := TX12) (N := 52) hx hb hts in_X12 hown hK hP 0 (aM_0 _ _ _ _ _) rfl 28 (by decide) (hts _ q1293) (fun _ h9 => h9) rfl dX12_make_105 ?_
                  refine lv_iload hx hb dX12_make_108 (lv_at hl 2 rfl) ?_
                  refine li_iconst hx hb dX12_make_110 ?_
                  refine li_iast (g := (ρ 28)) (W2 := wM am ty τ (up (up ρ 27 (ug (ug (ρ 27) 0 y57_0) 1 y57_1_0)) 28 (ug (ρ 28) ((m1 / 100) % 10) 5)) ++ cs) hx hb hK hP hD hS 17 0 (aM_17 _ _ _ _ _) rfl (by omega) (by omega) (by decide) rfl dX12_make_111 (fun H locs hP hD hS => ?_)
                  refine lv_iload_n hx hb dX12_make_112 rfl (lv_at hl 4 rfl) ?_
                  refine li_iconst hx hb dX12_make_113 ?_
                  refine li_icmp_ne (tgt := 149) hx hb ⟨by omega, by omega⟩ ⟨by decide, by decide⟩ dX12_make_114 (by decide) (fun c114 => ?_) (fun c114 => ?_)
                  · exact eMv hQ hx hb hr hlk hP hD hS (Nat.le_of_ble_eq_true rfl) (Nat.le_of_ble_eq_true rfl) dX12_make_149 (⟨rfl, by first | (exfalso; omega) | (have e1 : (ug (ug (ρ 27) 0 y57_0) 1 y57_1_0) = mvw (m1 / 1000 % 10) (m1 % 10) (ρ 27) := (by have u1 : (ug (ρ 27) 0 y57_0) 1 = ρ 27 1 := rfl; funext i; by_cases i0 : i = 0; (subst i0; show y57_0 = mvw (m1 / 1000 % 10) (m1 % 10) (ρ 27) 0; rw [mvw_0]; split <;> omega); by_cases i1 : i = 1; (subst i1; show y57_1_0 = mvw (m1 / 1000 % 10) (m1 % 10) (ρ 27) 1; rw [mvw_1]; split <;> omega); by_cases i2 : i = 2; (subst i2; show ρ 27 2 = mvw (m1 / 1000 % 10) (m1 % 10) (ρ 27) 2; rw [mvw_2]; split <;> omega); (rw [mvw_x i0 i1 i2, ug_n i1, ug_n i0])); have e3 := congrArg (fun (a : Int → Int) => wM am ty τ (up (up ρ 27 a) 28 (ug (ug (ρ 28) 0 5) 1 5)) ++ cs) e1; exact e3)⟩)
                  · refine lv_aload_n hx hb dX12_make_117 rfl (lv_at hl 5 rfl) ?_
                    refine va_get (D := G) (ci := 11) (v := .ref (am 17)) (C := RX12) (T := TX12) (N := 52) hx hb hts in_X12 hown hK hP 0 (aM_0 _ _ _ _ _) rfl 28 (by decide) (hts _ q1293) (fun _ h9 => h9) rfl dX12_make_118 ?_
                    refine li_iconst hx hb dX12_make_121 ?_
                    refine lv_iload_n hx hb dX12_make_122 rfl (lv_at hl 7 rfl) ?_
                    refine li_if_eq (tgt := 130) hx hb ⟨by decide, by decide⟩ dX12_make_123 (by decide) (fun c123 => ?_) (fun c123 => ?_)
                    · exact absurd c123 (by decide)
                    · refine li_iconst hx hb dX12_make_126 ?_
                      refine lv_goto (tgt := 132) hx hb dX12_make_127 (by decide) ?_
                      refine li_iast (g := (ug (ρ 28) ((m1 / 100) % 10) 5)) (W2 := wM am ty τ (up (up ρ 27 (ug (ug (ρ 27) 0 y57_0) 1 y57_1_0)) 28 (ug (ug (ρ 28) ((m1 / 100) % 10) 5) 0 5)) ++ cs) hx hb hK hP hD hS 17 0 (aM_17 _ _ _ _ _) rfl (by decide) (by decide) (by decide) rfl dX12_make_132 (fun H locs hP hD hS => ?_)
                      refine lv_aload_n hx hb dX12_make_133 rfl (lv_at hl 5 rfl) ?_
                      refine va_get (D := G) (ci := 11) (v := .ref (am 17)) (C := RX12) (T := TX12) (N := 52) hx hb hts in_X12 hown hK hP 0 (aM_0 _ _ _ _ _) rfl 28 (by decide) (hts _ q1293) (fun _ h9 => h9) rfl dX12_make_134 ?_
                      refine li_iconst hx hb dX12_make_137 ?_
                      refine lv_iload_n hx hb dX12_make_138 rfl (lv_at hl 7 rfl) ?_
                      refine li_if_eq (tgt := 146) hx hb ⟨by decide, by decide⟩ dX12_make_139 (by decide) (fun c139 => ?_) (fun c139 => ?_)
                      · exact absurd c139 (by decide)
                      · refine li_iconst hx hb dX12_make_142 ?_
                        refine lv_goto (tgt := 148) hx hb dX12_make_143 (by decide) ?_
                        refine li_iast (g := (ug (ug (ρ 28) ((m1 / 100) % 10) 5) 0 5)) (W2 := wM am ty τ (up (up ρ 27 (ug (ug (ρ 27) 0 y57_0) 1 y57_1_0)) 28 (ug (ug (ug (ρ 28) ((m1 / 100) % 10) 5) 0 5) 1 5)) ++ cs) hx hb hK hP hD hS 17 0 (aM_17 _ _ _ _ _) rfl (by decide) (by decide) (by decide) rfl dX12_make_148 (fun H locs hP hD hS => ?_)
                        exact eMv hQ hx hb hr hlk hP hD hS (Nat.le_of_ble_eq_true rfl) (Nat.le_of_ble_eq_true rfl) dX12_make_149 (⟨rfl, by first | (exfalso; omega) | (have e1 : (ug (ug (ρ 27) 0 y57_0) 1 y57_1_0) = mvw (m1 / 1000 % 10) (m1 % 10) (ρ 27) := (by have u1 : (ug (ρ 27) 0 y57_0) 1 = ρ 27 1 := rfl; funext i; by_cases i0 : i = 0; (subst i0; show y57_0 = mvw (m1 / 1000 % 10) (m1 % 10) (ρ 27) 0; rw [mvw_0]; split <;> omega); by_cases i1 : i = 1; (subst i1; show y57_1_0 = mvw (m1 / 1000 % 10) (m1 % 10) (ρ 27) 1; rw [mvw_1]; split <;> omega); by_cases i2 : i = 2; (subst i2; show ρ 27 2 = mvw (m1 / 1000 % 10) (m1 % 10) (ρ 27) 2; rw [mvw_2]; split <;> omega); (rw [mvw_x i0 i1 i2, ug_n i1, ug_n i0])); have e3 := congrArg (fun (a : Int → Int) => wM am ty τ (up (up ρ 27 a) 28 (ug (ug (ρ 28) 0 5) 1 5)) ++ cs) e1; exact e3)⟩)
              · refine lv_aload_n hx hb dX12_make_90 rfl (lv_at hl 5 rfl) ?_
                refine va_get (D := G) (ci := 11) (v := .ref (am 17)) (C := RX12) (T := TX12) (N := 52) hx hb hts in_X12 hown hK hP 0 (aM_0 _ _ _ _ _) rfl 28 (by decide) (hts _ q1293) (fun _ h9 => h9) rfl dX12_make_91 ?_
                refine lv_iload hx hb dX12_make_94 (lv_at hl 2 rfl) ?_
                refine lv_iload hx hb dX12_make_96 (lv_at hl 1 rfl) ?_
                refine li_iast (g := (ρ 28)) (W2 := wM am ty τ (up (up ρ 27 (ug (ug (ρ 27) 0 y57_0) 1 y57_1_0)) 28 (ug (ρ 28) ((m1 / 100) % 10) (m1 % 10))) ++ cs) hx hb hK hP hD hS 17 0 (aM_17 _ _ _ _ _) rfl (by omega) (by omega) (by decide) rfl dX12_make_98 (fun H locs hP hD hS => ?_)
                refine lv_iload_n hx hb dX12_make_99 rfl (lv_at hl 4 rfl) ?_
                refine li_iconst hx hb dX12_make_100 ?_
                refine li_icmp_ne (tgt := 112) hx hb ⟨by omega, by omega⟩ ⟨by decide, by decide⟩ dX12_make_101 (by decide) (fun c101 => ?_) (fun c101 => ?_)
                · refine lv_iload_n hx hb dX12_make_112 rfl (lv_at hl 4 rfl) ?_
                  refine li_iconst hx hb dX12_make_113 ?_
                  refine li_icmp_ne (tgt := 149) hx hb ⟨by omega, by omega⟩ ⟨by decide, by decide⟩ dX12_make_114 (by decide) (fun c114 => ?_) (fun c114 => ?_)
                  · exact eMv hQ hx hb hr hlk hP hD hS (Nat.le_of_ble_eq_true rfl) (Nat.le_of_ble_eq_true rfl) dX12_make_149 (⟨rfl, by first | (exfalso; omega) | (have e1 : (ug (ug (ρ 27) 0 y57_0) 1 y57_1_0) = mvw (m1 / 1000 % 10) (m1 % 10) (ρ 27) := (by have u1 : (ug (ρ 27) 0 y57_0) 1 = ρ 27 1 := rfl; funext i; by_cases i0 : i = 0; (subst i0; show y57_0 = mvw (m1 / 1000 % 10) (m1 % 10) (ρ 27) 0; rw [mvw_0]; split <;> omega); by_cases i1 : i = 1; (subst i1; show y57_1_0 = mvw (m1 / 1000 % 10) (m1 % 10) (ρ 27) 1; rw [mvw_1]; split <;> omega); by_cases i2 : i = 2; (subst i2; show ρ 27 2 = mvw (m1 / 1000 % 10) (m1 % 10) (ρ 27) 2; rw [mvw_2]; split <;> omega); (rw [mvw_x i0 i1 i2, ug_n i1, ug_n i0])); have e3 := congrArg (fun (a : Int → Int) => wM am ty τ (up (up ρ 27 a) 28 (ug (ug (ρ 28) 0 5) 1 5)) ++ cs) e1; exact e3)⟩)
                  · refine lv_aload_n hx hb dX12_make_117 rfl (lv_at hl 5 rfl) ?_
                    refine va_get (D := G) (ci := 11) (v := .ref (am 17)) (C := RX12) (T := TX12) (N := 52) hx hb hts in_X12 hown hK hP 0 (aM_0 _ _ _ _ _) rfl 28 (by decide) (hts _ q1293) (fun _ h9 => h9) rfl dX12_make_118 ?_
                    refine li_iconst hx hb dX12_make_121 ?_
                    refine lv_iload_n hx hb dX12_make_122 rfl (lv_at hl 7 rfl) ?_
                    refine li_if_eq (tgt := 130) hx hb ⟨by decide, by decide⟩ dX12_make_123 (by decide) (fun c123 => ?_) (fun c123 => ?_)
                    · exact absurd c123 (by decide)
                    · refine li_iconst hx hb dX12_make_126 ?_
                      refine lv_goto (tgt := 132) hx hb dX12_make_127 (by decide) ?_
                      refine li_iast (g := (ug (ρ 28) ((m1 / 100) % 10) (m1 % 10))) (W2 := wM am ty τ (up (up ρ 27 (ug (ug (ρ 27) 0 y57_0) 1 y57_1_0)) 28 (ug (ug (ρ 28) ((m1 / 100) % 10) (m1 % 10)) 0 5)) ++ cs) hx hb hK hP hD hS 17 0 (aM_17 _ _ _ _ _) rfl (by decide) (by decide) (by decide) rfl dX12_make_132 (fun H locs hP hD hS => ?_)
                      refine lv_aload_n hx hb dX12_make_133 rfl (lv_at hl 5 rfl) ?_
                      refine va_get (D := G) (ci := 11) (v := .ref (am 17)) (C := RX12) (T := TX12) (N := 52) hx hb hts in_X12 hown hK hP 0 (aM_0 _ _ _ _ _) rfl 28 (by decide) (hts _ q1293) (fun _ h9 => h9) rfl dX12_make_134 ?_
                      refine li_iconst hx hb dX12_make_137 ?_
                      refine lv_iload_n hx hb dX12_make_138 rfl (lv_at hl 7 rfl) ?_
                      refine li_if_eq (tgt := 146) hx hb ⟨by decide, by decide⟩ dX12_make_139 (by decide) (fun c139 => ?_) (fun c139 => ?_)
                      · exact absurd c139 (by decide)
                      · refine li_iconst hx hb dX12_make_142 ?_
                        refine lv_goto (tgt := 148) hx hb dX12_make_143 (by decide) ?_
                        refine li_iast (g := (ug (ug (ρ 28) ((m1 / 100) % 10) (m1 % 10)) 0 5)) (W2 := wM am ty τ (up (up ρ 27 (ug (ug (ρ 27) 0 y57_0) 1 y57_1_0)) 28 (ug (ug (ug (ρ 28) ((m1 / 100) % 10) (m1 % 10)) 0 5) 1 5)) ++ cs) hx hb hK hP hD hS 17 0 (aM_17 _ _ _ _ _) rfl (by decide) (by decide) (by decide) rfl dX12_make_148 (fun H locs hP hD hS => ?_)
                        exact eMv hQ hx hb hr hlk hP hD hS (Nat.le_of_ble_eq_true rfl) (Nat.le_of_ble_eq_true rfl) dX12_make_149 (⟨rfl, by first | (exfalso; omega) | (have e1 : (ug (ug (ρ 27) 0 y57_0) 1 y57_1_0) = mvw (m1 / 1000 % 10) (m1 % 10) (ρ 27) := (by have u1 : (ug (ρ 27) 0 y57_0) 1 = ρ 27 1 := rfl; funext i; by_cases i0 : i = 0; (subst i0; show y57_0 = mvw (m1 / 1000 % 10) (m1 % 10) (ρ 27) 0; rw [mvw_0]; split <;> omega); by_cases i1 : i = 1; (subst i1; show y57_1_0 = mvw (m1 / 1000 % 10) (m1 % 10) (ρ 27) 1; rw [mvw_1]; split <;> omega); by_cases i2 : i = 2; (subst i2; show ρ 27 2 = mvw (m1 / 1000 % 10) (m1 % 10) (ρ 27) 2; rw [mvw_2]; split <;> omega); (rw [mvw_x i0 i1 i2, ug_n i1, ug_n i0])); have e3 := congrArg (fun (a : Int → Int) => wM am ty τ (up (up ρ 27 a) 28 (ug (ug (ρ 28) 0 5) 1 5)) ++ cs) e1; exact e3)⟩)
                · refine lv_aload_n hx hb dX12_make_104 rfl (lv_at hl 5 rfl) ?_
                  refine va_get (D := G) (ci := 11) (v := .ref (am 17)) (C := RX12) (T := TX12) (N := 52) hx hb hts in_X12 hown hK hP 0 (aM_0 _ _ _ _ _) rfl 28 (by decide) (hts _ q1293) (fun _ h9 => h9) rfl dX12_make_105 ?_
                  refine lv_iload hx hb dX12_make_108 (lv_at hl 2 rfl) ?_
                  refine li_iconst hx hb dX12_make_110 ?_
                  refine li_iast (g := (ug (ρ 28) ((m1 / 100) % 10) (m1 % 10))) (W2 := wM am ty τ (up (up ρ 27 (ug (ug (ρ 27) 0 y57_0) 1 y57_1_0)) 28 (ug (ug (ρ 28) ((m1 / 100) % 10) (m1 % 10)) ((m1 / 100) % 10) 5)) ++ cs) hx hb hK hP hD hS 17 0 (aM_17 _ _ _ _ _) rfl (by omega) (by omega) (by decide) rfl dX12_make_111 (fun H locs hP hD hS => ?_)
                  refine lv_iload_n hx hb dX12_make_112 rfl (lv_at hl 4 rfl) ?_
                  refine li_iconst hx hb dX12_make_113 ?_
                  refine li_icmp_ne (tgt := 149) hx hb ⟨by omega, by omega⟩ ⟨by decide, by decide⟩ dX12_make_114 (by decide) (fun c114 => ?_) (fun c114 => ?_)
                  · exact eMv hQ hx hb hr hlk hP hD hS (Nat.le_of_ble_eq_true rfl) (Nat.le_of_ble_eq_true rfl) dX12_make_149 (⟨rfl, by first | (exfalso; omega) | (have e1 : (ug (ug (ρ 27) 0 y57_0) 1 y57_1_0) = mvw (m1 / 1000 % 10) (m1 % 10) (ρ 27) := (by have u1 : (ug (ρ 27) 0 y57_0) 1 = ρ 27 1 := rfl; funext i; by_cases i0 : i = 0; (subst i0; show y57_0 = mvw (m1 / 1000 % 10) (m1 % 10) (ρ 27) 0; rw [mvw_0]; split <;> omega); by_cases i1 : i = 1; (subst i1; show y57_1_0 = mvw (m1 / 1000 % 10) (m1 % 10) (ρ 27) 1; rw [mvw_1]; split <;> omega); by_cases i2 : i = 2; (subst i2; show ρ 27 2 = mvw (m1 / 1000 % 10) (m1 % 10) (ρ 27) 2; rw [mvw_2]; split <;> omega); (rw [mvw_x i0 i1 i2, ug_n i1, ug_n i0])); have e3 := congrArg (fun (a : Int → Int) => wM am ty τ (up (up ρ 27 a) 28 (ug (ug (ρ 28) 0 5) 1 5)) ++ cs) e1; exact e3)⟩)
                  · refine lv_aload_n hx hb dX12_make_117 rfl (lv_at hl 5 rfl) ?_
                    refine va_get (D := G) (ci := 11) (v := .ref (am 17)) (C := RX12) (T := TX12) (N := 52) hx hb hts in_X12 hown hK hP 0 (aM_0 _ _ _ _ _) rfl 28 (by decide) (hts _ q1293) (fun _ h9 => h9) rfl dX12_make_118 ?_
                    refine li_iconst hx hb dX12_make_121 ?_
                    refine lv_iload_n hx hb dX12_make_122 rfl (lv_at hl 7 rfl) ?_
                    refine li_if_eq (tgt := 130) hx hb ⟨by decide, by decide⟩ dX12_make_123 (by decide) (fun c123 => ?_) (fun c123 => ?_)
                    · exact absurd c123 (by decide)
                    · refine li_iconst hx hb dX12_make_126 ?_
                      refine lv_goto (tgt := 132) hx hb dX12_make_127 (by decide) ?_
                      refine li_iast (g := (ug (ug (ρ 28) ((m1 / 100) % 10) (m1 % 10)) ((m1 / 100) % 10) 5)) (W2 := wM am ty τ (up (up ρ 27 (ug (ug (ρ 27) 0 y57_0) 1 y57_1_0)) 28 (ug (ug (ug (ρ 28) ((m1 / 100) % 10) (m1 % 10)) ((m1 / 100) % 10) 5) 0 5)) ++ cs) hx hb hK hP hD hS 17 0 (aM_17 _ _ _ _ _) rfl (by decide) (by decide) (by decide) rfl dX12_make_132 (fun H locs hP hD hS => ?_)
                      refine lv_aload_n hx hb dX12_make_133 rfl (lv_at hl 5 rfl) ?_
                      refine va_get (D := G) (ci := 11) (v := .ref (am 17)) (C := RX12) (T := TX12) (N := 52) hx hb hts in_X12 hown hK hP 0 (aM_0 _ _ _ _ _) rfl 28 (by decide) (hts _ q1293) (fun _ h9 => h9) rfl dX12_make_134 ?_
                      refine li_iconst hx hb dX12_make_137 ?_
                      refine lv_iload_n hx hb dX12_make_138 rfl (lv_at hl 7 rfl) ?_
                      refine li_if_eq (tgt := 146) hx hb ⟨by decide, by decide⟩ dX12_make_139 (by decide) (fun c139 => ?_) (fun c139 => ?_)
                      · exact absurd c139 (by decide)
                      · refine li_iconst hx hb dX12_make_142 ?_
                        refine lv_goto (tgt := 148) hx hb dX12_make_143 (by decide) ?_
                        refine li_iast (g := (ug (ug (ug (ρ 28) ((m1 / 100) % 10) (m1 % 10)) ((m1 / 100) % 10) 5) 0 5)) (W2 := wM am ty τ (up (up ρ 27 (ug (ug (ρ 27) 0 y57_0) 1 y57_1_0)) 28 (ug (ug (ug (ug (ρ 28) ((m1 / 100) % 10) (m1 % 10)) ((m1 / 100) % 10) 5) 0 5) 1 5)) ++ cs) hx hb hK hP hD hS 17 0 (aM_17 _ _ _ _ _) rfl (by decide) (by decide) (by decide) rfl dX12_make_148 (fun H locs hP hD hS => ?_)
                        exact eMv hQ hx hb hr hlk hP hD hS (Nat.le_of_ble_eq_true rfl) (Nat.le_of_ble_eq_true rfl) dX12_make_149 (⟨rfl, by first | (exfalso; omega) | (have e1 : (ug (ug (ρ 27) 0 y57_0) 1 y57_1_0) = mvw (m1 / 1000 % 10) (m1 % 10) (ρ 27) := (by have u1 : (ug (ρ 27) 0 y57_0) 1 = ρ 27 1 := rfl; funext i; by_cases i0 : i = 0; (subst i0; show y57_0 = mvw (m1 / 1000 % 10) (m1 % 10) (ρ 27) 0; rw [mvw_0]; split <;> omega); by_cases i1 : i = 1; (subst i1; show y57_1_0 = mvw (m1 / 1000 % 10) (m1 % 10) (ρ 27) 1; rw [mvw_1]; split <;> omega); by_cases i2 : i = 2; (subst i2; show ρ 27 2 = mvw (m1 / 1000 % 10) (m1 % 10) (ρ 27) 2; rw [mvw_2]; split <;> omega); (rw [mvw_x i0 i1 i2, ug_n i1, ug_n i0])); have e3 := congrArg (fun (a : Int → Int) => wM am ty τ (up (up ρ 27 a) 28 (ug (ug (ρ 28) 0 5) 1 5)) ++ cs) e1; exact e3)⟩)
          · refine lv_aload_n hx hb dX12_make_43 rfl (lv_at hl 5 rfl) ?_
            refine va_get (D := G) (ci := 11) (v := .ref (am 16)) (C := RX12) (T := TX12) (N := 52) hx hb hts in_X12 hown hK hP 0 (aM_0 _ _ _ _ _) rfl 27 (by decide) (hts _ q1292) (fun _ h9 => h9) rfl dX12_make_44 ?_
            refine lv_iload hx hb dX12_make_47 (lv_at hl 0 rfl) ?_
            refine lv_iload hx hb dX12_make_49 (lv_at hl 3 rfl) ?_
            refine lv_iload hx hb dX12_make_51 (lv_at hl 0 rfl) ?_
            refine lv_ishr hx hb dX12_make_53 ?_
            refine li_topx (z := (m1 / 1000) % 10 / 4) (ii_shr2 (by omega) (by omega)) ?_
            refine li_iconst hx hb dX12_make_54 ?_
            refine lv_iand hx hb dX12_make_55 ?_
            refine li_topx (z := ((m1 / 1000) % 10 / 4) % 2) (ii_and1 (by omega) (by omega)) ?_
            refine li_iconst hx hb dX12_make_56 ?_
            have J57_2 : ∀ (y57_2_0 : Int) (_ : ((¬ (((m1 / 1000) % 10 / 4) % 2) = 1) ∧ y57_2_0 = (ug (ug (ρ 27) 0 y57_0) 1 y57_1_0) 2) ∨ (((((m1 / 1000) % 10 / 4) % 2) = 1) ∧ y57_2_0 = m1 % 10)) (H : Heap) (locs : List Loc) (_ : va_P G gcl (wM am ty τ (up ρ 27 (ug (ug (ρ 27) 0 y57_0) 1 y57_1_0)) ++ cs) H) (_ : va_D A (wM am ty τ (up ρ 27 (ug (ug (ρ 27) 0 y57_0) 1 y57_1_0)) ++ cs)) (_ : va_S A s.heap H locs) (ls : Array Slot), lv_has ls 8 [(7, .int (ii 2)), (6, .int (ii (m1 % 10))), (5, .int (ii ((m1 / 100) % 10))), (4, .int (ii ((m1 / 1000) % 10))), (3, .int (ii (m1 / 10000))), (0, .ref (am 0)), (1, .int (ii m1)), (2, .int (ii 1))] → W p l e (rm4 0 0 0 0) s m args below meth c H locs 0 0 Q (F0 m 72 ls [.int (ii y57_2_0), .int (ii 2), .ref (am 16)]) := by
              intro y57_2_0 hj57_2 H locs hP hD hS ls hl
              refine li_iast (g := (ug (ug (ρ 27) 0 y57_0) 1 y57_1_0)) (W2 := wM am ty τ (up ρ 27 (ug (ug (ug (ρ 27) 0 y57_0) 1 y57_1_0) 2 y57_2_0)) ++ cs) hx hb hK hP hD hS 16 0 (aM_16 _ _ _ _ _) rfl (by decide) (by decide) (by decide) rfl dX12_make_72 (fun H locs hP hD hS => ?_)
              refine li_iinc (a := 2) (lv' := [(7, .int (ii 3)), (6, .int (ii (m1 % 10))), (5, .int (ii ((m1 / 100) % 10))), (4, .int (ii ((m1 / 1000) % 10))), (3, .int (ii (m1 / 10000))), (0, .ref (am 0)), (1, .int (ii m1)), (2, .int (ii 1))]) hx hb dX12_make_73 hl (k := 0) rfl (by decide) rfl (fun ls hl => ?_)
              refine lv_goto (tgt := 34) hx hb dX12_make_76 (by decide) ?_
              refine lv_iload hx hb dX12_make_34 (lv_at hl 0 rfl) ?_
              refine lv_aload_n hx hb dX12_make_36 rfl (lv_at hl 5 rfl) ?_
              refine va_get (D := G) (ci := 11) (v := .int (ii (τ 5 0))) (C := RX12) (T := TX12) (N := 52) hx hb hts in_X12 hown hK hP 0 (aM_0 _ _ _ _ _) rfl 5 (by decide) (hts _ q1270) (fun _ h9 => h9) rfl dX12_make_37 ?_
              refine li_icmp_ge (tgt := 79) hx hb ⟨by decide, by decide⟩ ⟨by omega, by omega⟩ dX12_make_40 (by decide) (fun c40 => ?_) (fun c40 => ?_)
              · refine lv_iload_n hx hb dX12_make_79 rfl (lv_at hl 4 rfl) ?_
                refine li_iconst hx hb dX12_make_80 ?_
                refine li_icmp_eq (tgt := 90) hx hb ⟨by omega, by omega⟩ ⟨by decide, by decide⟩ dX12_make_81 (by decide) (fun c81 => ?_) (fun c81 => ?_)
                · refine lv_aload_n hx hb dX12_make_90 rfl (lv_at hl 5 rfl) ?_
                  refine va_get (D := G) (ci := 11) (v := .ref (am 17)) (C := RX12) (T := TX12) (N := 52) hx hb hts in_X12 hown hK hP 0 (aM_0 _ _ _ _ _) rfl 28 (by decide) (hts _ q1293) (fun _ h9 => h9) rfl dX12_make_91 ?_
                  refine lv_iload hx hb dX12_make_94 (lv_at hl 2 rfl) ?_
                  refine lv_iload hx hb dX12_make_96 (lv_at hl 1 rfl) ?_
                  refine li_iast (g := (ρ 28)) (W2 := wM am ty τ (up (up ρ 27 (ug (ug (ug (ρ 27) 0 y57_0) 1 y57_1_0) 2 y57_2_0)) 28 (ug (ρ 28) ((m1 / 100) % 10) (m1 % 10))) ++ cs) hx hb hK hP hD hS 17 0 (aM_17 _ _ _ _ _) rfl (by omega) (by omega) (by decide) rfl dX12_make_98 (fun H locs hP hD hS => ?_)
                  refine lv_iload_n hx hb dX12_make_99 rfl (lv_at hl 4 rfl) ?_
                  refine li_iconst hx hb dX12_make_100 ?_
                  refine li_icmp_ne (tgt := 112) hx hb ⟨by omega, by omega⟩ ⟨by decide, by decide⟩ dX12_make_101 (by decide) (fun c101 => ?_) (fun c101 => ?_)
                  · refine lv_iload_n hx hb dX12_make_112 rfl (lv_at hl 4 rfl) ?_
                    refine li_iconst hx hb dX12_make_113 ?_
                    refine li_icmp_ne (tgt := 149) hx hb ⟨by omega, by omega⟩ ⟨by decide, by decide⟩ dX12_make_114 (by decide) (fun c114 => ?_) (fun c114 => ?_)
                    · exact eMv hQ hx hb hr hlk hP hD hS (Nat.le_of_ble_eq_true rfl) (Nat.le_of_ble_eq_true rfl) dX12_make_149 (⟨rfl, by first | (exfalso; omega) | (have e1 : (ug (ug (ug (ρ 27) 0 y57_0) 1 y57_1_0) 2 y57_2_0) = mvw (m1 / 1000 % 10) (m1 % 10) (ρ 27) := (by have u1 : (ug (ρ 27) 0 y57_0) 1 = ρ 27 1 := rfl; have u2 : (ug (ug (ρ 27) 0 y57_0) 1 y57_1_0) 2 = ρ 27 2 := rfl; funext i; by_cases i0 : i = 0; (subst i0; show y57_0 = mvw (m1 / 1000 % 10) (m1 % 10) (ρ 27) 0; rw [mvw_0]; split <;> omega); by_cases i1 : i = 1; (subst i1; show y57_1_0 = mvw (m1 / 1000 % 10) (m1 % 10) (ρ 27) 1; rw [mvw_1]; split <;> omega); by_cases i2 : i = 2; (subst i2; show y57_2_0 = mvw (m1 / 1000 % 10) (m1 % 10) (ρ 27) 2; rw [mvw_2]; split <;> omega); (rw [mvw_x i0 i1 i2, ug_n i2, ug_n i1, ug_n i0])); have e3 := congrArg (fun (a : Int → Int) => wM am ty τ (up (up ρ 27 a) 28 (ug (ug (ρ 28) 0 5) 1 5)) ++ cs) e1; exact e3)⟩)
                    · refine lv_aload_n hx hb dX12_make_117 rfl (lv_at hl 5 rfl) ?_
                      refine va_get (D := G) (ci := 11) (v := .ref (am 17)) (C := RX12) (T := TX12) (N := 52) hx hb hts in_X12 hown hK hP 0 (aM_0 _ _ _ _ _) rfl 28 (by decide) (hts _ q1293) (fun _ h9 => h9) rfl dX12_make_118 ?_
                      refine li_iconst hx hb dX12_make_121 ?_
                      refine lv_iload_n hx hb dX12_make_122 rfl (lv_at hl 7 rfl) ?_
                      refine li_if_eq (tgt := 130) hx hb ⟨by decide, by decide⟩ dX12_make_123 (by decide) (fun c123 => ?_) (fun c123 => ?_)
                      · exact absurd c123 (by decide)
                      · refine li_iconst hx hb dX12_make_126 ?_
                        refine lv_goto (tgt := 132) hx hb dX12_make_127 (by decide) ?_
                        refine li_iast (g := (ug (ρ 28) ((m1 / 100) % 10) (m1 % 10))) (W2 := wM am ty τ (up (up ρ 27 (ug (ug (ug (ρ 27) 0 y57_0) 1 y57_1_0) 2 y57_2_0)) 28 (ug (ug (ρ 28) ((m1 / 100) % 10) (m1 % 10)) 0 5)) ++ cs) hx hb hK hP hD hS 17 0 (aM_17 _ _ _ _ _) rfl (by decide) (by decide) (by decide) rfl dX12_make_132 (fun H locs hP hD hS => ?_)
                        refine lv_aload_n hx hb dX12_make_133 rfl (lv_at hl 5 rfl) ?_
                        refine va_get (D := G) (ci := 11) (v := .ref (am 17)) (C := RX12) (T := TX12) (N := 52) hx hb hts in_X12 hown hK hP 0 (aM_0 _ _ _ _ _) rfl 28 (by decide) (hts _ q1293) (fun _ h9 => h9) rfl dX12_make_134 ?_
                        refine li_iconst hx hb dX12_make_137 ?_
                        refine lv_iload_n hx hb dX12_make_138 rfl (lv_at hl 7 rfl) ?_
                        refine li_if_eq (tgt := 146) hx hb ⟨by decide, by decide⟩ dX12_make_139 (by decide) (fun c139 => ?_) (fun c139 => ?_)
                        · exact absurd c139 (by decide)
                        · refine li_iconst hx hb dX12_make_142 ?_
                          refine lv_goto (tgt := 148) hx hb dX12_make_143 (by decide) ?_
                          refine li_iast (g := (ug (ug (ρ 28) ((m1 / 100) % 10) (m1 % 10)) 0 5)) (W2 := wM am ty τ (up (up ρ 27 (ug (ug (ug (ρ 27) 0 y57_0) 1 y57_1_0) 2 y57_2_0)) 28 (ug (ug (ug (ρ 28) ((m1 / 100) % 10) (m1 % 10)) 0 5) 1 5)) ++ cs) hx hb hK hP hD hS 17 0 (aM_17 _ _ _ _ _) rfl (by decide) (by decide) (by decide) rfl dX12_make_148 (fun H locs hP hD hS => ?_)
                          exact eMv hQ hx hb hr hlk hP hD hS (Nat.le_of_ble_eq_true rfl) (Nat.le_of_ble_eq_true rfl) dX12_make_149 (⟨rfl, by first | (exfalso; omega) | (have e1 : (ug (ug (ug (ρ 27) 0 y57_0) 1 y57_1_0) 2 y57_2_0) = mvw (m1 / 1000 % 10) (m1 % 10) (ρ 27) := (by have u1 : (ug (ρ 27) 0 y57_0) 1 = ρ 27 1 := rfl; have u2 : (ug (ug (ρ 27) 0 y57_0) 1 y57_1_0) 2 = ρ 27 2 := rfl; funext i; by_cases i0 : i = 0; (subst i0; show y57_0 = mvw (m1 / 1000 % 10) (m1 % 10) (ρ 27) 0; rw [mvw_0]; split <;> omega); by_cases i1 : i = 1; (subst i1; show y57_1_0 = mvw (m1 / 1000 % 10) (m1 % 10) (ρ 27) 1; rw [mvw_1]; split <;> omega); by_cases i2 : i = 2; (subst i2; show y57_2_0 = mvw (m1 / 1000 % 10) (m1 % 10) (ρ 27) 2; rw [mvw_2]; split <;> omega); (rw [mvw_x i0 i1 i2, ug_n i2, ug_n i1, ug_n i0])); have e3 := congrArg (fun (a : Int → Int) => wM am ty τ (up (up ρ 27 a) 28 (ug (ug (ρ 28) 0 5) 1 5)) ++ cs) e1; exact e3)⟩)
                  · refine lv_aload_n hx hb dX12_make_104 rfl (lv_at hl 5 rfl) ?_
                    refine va_get (D := G) (ci := 11) (v := .ref (am 17)) (C := RX12) (T := TX12) (N := 52) hx hb hts in_X12 hown hK hP 0 (aM_0 _ _ _ _ _) rfl 28 (by decide) (hts _ q1293) (fun _ h9 => h9) rfl dX12_make_105 ?_
                    refine lv_iload hx hb dX12_make_108 (lv_at hl 2 rfl) ?_
                    refine li_iconst hx hb dX12_make_110 ?_
                    refine li_iast (g := (ug (ρ 28) ((m1 / 100) % 10) (m1 % 10))) (W2 := wM am ty τ (up (up ρ 27 (ug (ug (ug (ρ 27) 0 y57_0) 1 y57_1_0) 2 y57_2_0)) 28 (ug (ug (ρ 28) ((m1 / 100) % 10) (m1 % 10)) ((m1 / 100) % 10) 5)) ++ cs) hx hb hK hP hD hS 17 0 (aM_17 _ _ _ _ _) rfl (by omega) (by omega) (by decide) rfl dX12_make_111 (fun H locs hP hD hS => ?_)
                    refine lv_iload_n hx hb dX12_make_112 rfl (lv_at hl 4 rfl) ?_
                    refine li_iconst hx hb dX12_make_113 ?_
                    refine li_icmp_ne (tgt := 149) hx hb ⟨by omega, by omega⟩ ⟨by decide, by decide⟩ dX12_make_114 (by decide) (fun c114 => ?_) (fun c114 => ?_)
                    · exact eMv hQ hx hb hr hlk hP hD hS (Nat.le_of_ble_eq_true rfl) (Nat.le_of_ble_eq_true rfl) dX12_make_149 (⟨rfl, by first | (exfalso; omega) | (have e1 : (ug (ug (ug (ρ 27) 0 y57_0) 1 y57_1_0) 2 y57_2_0) = mvw (m1 / 1000 % 10) (m1 % 10) (ρ 27) := (by have u1 : (ug (ρ 27) 0 y57_0) 1 = ρ 27 1 := rfl; have u2 : (ug (ug (ρ 27) 0 y57_0) 1 y57_1_0) 2 = ρ 27 2 := rfl; funext i; by_cases i0 : i = 0; (subst i0; show y57_0 = mvw (m1 / 1000 % 10) (m1 % 10) (ρ 27) 0; rw [mvw_0]; split <;> omega); by_cases i1 : i = 1; (subst i1; show y57_1_0 = mvw (m1 / 1000 % 10) (m1 % 10) (ρ 27) 1; rw [mvw_1]; split <;> omega); by_cases i2 : i = 2; (subst i2; show y57_2_0 = mvw (m1 / 1000 % 10) (m1 % 10) (ρ 27) 2; rw [mvw_2]; split <;> omega); (rw [mvw_x i0 i1 i2, ug_n i2, ug_n i1, ug_n i0])); have e3 := congrArg (fun (a : Int → Int) => wM am ty τ (up (up ρ 27 a) 28 (ug (ug (ρ 28) 0 5) 1 5)) ++ cs) e1; exact e3)⟩)
                    · refine lv_aload_n hx hb dX12_make_117 rfl (lv_at hl 5 rfl) ?_
                      refine va_get (D := G) (ci := 11) (v := .ref (am 17)) (C := RX12) (T := TX12) (N := 52) hx hb hts in_X12 hown hK hP 0 (aM_0 _ _ _ _ _) rfl 28 (by decide) (hts _ q1293) (fun _ h9 => h9) rfl dX12_make_118 ?_
                      refine li_iconst hx hb dX12_make_121 ?_
                      refine lv_iload_n hx hb dX12_make_122 rfl (lv_at hl 7 rfl) ?_
                      refine li_if_eq (tgt := 130) hx hb ⟨by decide, by decide⟩ dX12_make_123 (by decide) (fun c123 => ?_) (fun c123 => ?_)
                      · exact absurd c123 (by decide)
                      · refine li_iconst hx hb dX12_make_126 ?_
                        refine lv_goto (tgt := 132) hx hb dX12_make_127 (by decide) ?_
                        refine li_iast (g := (ug (ug (ρ 28) ((m1 / 100) % 10) (m1 % 10)) ((m1 / 100) % 10) 5)) (W2 := wM am ty τ (up (up ρ 27 (ug (ug (ug (ρ 27) 0 y57_0) 1 y57_1_0) 2 y57_2_0)) 28 (ug (ug (ug (ρ 28) ((m1 / 100) % 10) (m1 % 10)) ((m1 / 100) % 10) 5) 0 5)) ++ cs) hx hb hK hP hD hS 17 0 (aM_17 _ _ _ _ _) rfl (by decide) (by decide) (by decide) rfl dX12_make_132 (fun H locs hP hD hS => ?_)
                        refine lv_aload_n hx hb dX12_make_133 rfl (lv_at hl 5 rfl) ?_
                        refine va_get (D := G) (ci := 11) (v := .ref (am 17)) (C := RX12) (T := TX12) (N := 52) hx hb hts in_X12 hown hK hP 0 (aM_0 _ _ _ _ _) rfl 28 (by decide) (hts _ q1293) (fun _ h9 => h9) rfl dX12_make_134 ?_
                        refine li_iconst hx hb dX12_make_137 ?_
                        refine lv_iload_n hx hb dX12_make_138 rfl (lv_at hl 7 rfl) ?_
                        refine li_if_eq (tgt := 146) hx hb ⟨by decide, by decide⟩ dX12_make_139 (by decide) (fun c139 => ?_) (fun c139 => ?_)
                        · exact absurd c139 (by decide)
                        · refine li_iconst hx hb dX12_make_142 ?_
                          refine lv_goto (tgt := 148) hx hb dX12_make_143 (by decide) ?_
                          refine li_iast (g := (ug (ug (ug (ρ 28) ((m1 / 100) % 10) (m1 % 10)) ((m1 / 100) % 10) 5) 0 5)) (W2 := wM am ty τ (up (up ρ 27 (ug (ug (ug (ρ 27) 0 y57_0) 1 y57_1_0) 2 y57_2_0)) 28 (ug (ug (ug (ug (ρ 28) ((m1 / 100) % 10) (m1 % 10)) ((m1 / 100) % 10) 5) 0 5) 1 5)) ++ cs) hx hb hK hP hD hS 17 0 (aM_17 _ _ _ _ _) rfl (by decide) (by decide) (by decide) rfl dX12_make_148 (fun H locs hP hD hS => ?_)
                          exact eMv hQ hx hb hr hlk hP hD hS (Nat.le_of_ble_eq_true rfl) (Nat.le_of_ble_eq_true rfl) dX12_make_149 (⟨rfl, by first | (exfalso; omega) | (have e1 : (ug (ug (ug (ρ 27) 0 y57_0) 1 y57_1_0) 2 y57_2_0) = mvw (m1 / 1000 % 10) (m1 % 10) (ρ 27) := (by have u1 : (ug (ρ 27) 0 y57_0) 1 = ρ 27 1 := rfl; have u2 : (ug (ug (ρ 27) 0 y57_0) 1 y57_1_0) 2 = ρ 27 2 := rfl; funext i; by_cases i0 : i = 0; (subst i0; show y57_0 = mvw (m1 / 1000 % 10) (m1 % 10) (ρ 27) 0; rw [mvw_0]; split <;> omega); by_cases i1 : i = 1; (subst i1; show y57_1_0 = mvw (m1 / 1000 % 10) (m1 % 10) (ρ 27) 1; rw [mvw_1]; split <;> omega); by_cases i2 : i = 2; (subst i2; show y57_2_0 = mvw (m1 / 1000 % 10) (m1 % 10) (ρ 27) 2; rw [mvw_2]; split <;> omega); (rw [mvw_x i0 i1 i2, ug_n i2, ug_n i1, ug_n i0])); have e3 := congrArg (fun (a : Int → Int) => wM am ty τ (up (up ρ 27 a) 28 (ug (ug (ρ 28) 0 5) 1 5)) ++ cs) e1; exact e3)⟩)
                · refine lv_iload_n hx hb dX12_make_84 rfl (lv_at hl 4 rfl) ?_
                  refine li_bipush hx hb dX12_make_85 (by decide) ?_
                  refine li_icmp_ne (tgt := 99) hx hb ⟨by omega, by omega⟩ ⟨by decide, by decide⟩ dX12_make_87 (by decide) (fun c87 => ?_) (fun c87 => ?_)
                  · refine lv_iload_n hx hb dX12_make_99 rfl (lv_at hl 4 rfl) ?_
                    refine li_iconst hx hb dX12_make_100 ?_
                    refine li_icmp_ne (tgt := 112) hx hb ⟨by omega, by omega⟩ ⟨by decide, by decide⟩ dX12_make_101 (by decide) (fun c101 => ?_) (fun c101 => ?_)
                    · refine lv_iload_n hx hb dX12_make_112 rfl (lv_at hl 4 rfl) ?_
                      refine li_iconst hx hb dX12_make_113 ?_
                      refine li_icmp_ne (tgt := 149) hx hb ⟨by omega, by omega⟩ ⟨by decide, by decide⟩ dX12_make_114 (by decide) (fun c114 => ?_) (fun c114 => ?_)
                      · exact eMv hQ hx hb hr hlk hP hD hS (Nat.le_of_ble_eq_true rfl) (Nat.le_of_ble_eq_true rfl) dX12_make_149 (⟨rfl, by first | (exfalso; omega) | (have e1 : (ug (ug (ug (ρ 27) 0 y57_0) 1 y57_1_0) 2 y57_2_0) = mvw (m1 / 1000 % 10) (m1 % 10) (ρ 27) := (by have u1 : (ug (ρ 27) 0 y57_0) 1 = ρ 27 1 := rfl; have u2 : (ug (ug (ρ 27) 0 y57_0) 1 y57_1_0) 2 = ρ 27 2 := rfl; funext i; by_cases i0 : i = 0; (subst i0; show y57_0 = mvw (m1 / 1000 % 10) (m1 % 10) (ρ 27) 0; rw [mvw_0]; split <;> omega); by_cases i1 : i = 1; (subst i1; show y57_1_0 = mvw (m1 / 1000 % 10) (m1 % 10) (ρ 27) 1; rw [mvw_1]; split <;> omega); by_cases i2 : i = 2; (subst i2; show y57_2_0 = mvw (m1 / 1000 % 10) (m1 % 10) (ρ 27) 2; rw [mvw_2]; split <;> omega); (rw [mvw_x i0 i1 i2, ug_n i2, ug_n i1, ug_n i0])); have e3 := congrArg (fun (a : Int → Int) => wM am ty τ (up (up ρ 27 a) 28 (ug (ug (ρ 28) 0 5) 1 5)) ++ cs) e1; exact e3)⟩)
                      · refine lv_aload_n hx hb dX12_make_117 rfl (lv_at hl 5 rfl) ?_
                        refine va_get (D := G) (ci := 11) (v := .ref (am 17)) (C := RX12) (T := TX12) (N := 52) hx hb hts in_X12 hown hK hP 0 (aM_0 _ _ _ _ _) rfl 28 (by decide) (hts _ q1293) (fun _ h9 => h9) rfl dX12_make_118 ?_
                        refine li_iconst hx hb dX12_make_121 ?_
                        refine lv_iload_n hx hb dX12_make_122 rfl (lv_at hl 7 rfl) ?_
                        refine li_if_eq (tgt := 130) hx hb ⟨by decide, by decide⟩ dX12_make_123 (by decide) (fun c123 => ?_) (fun c123 => ?_)
                        · exact absurd c123 (by decide)
                        · refine li_iconst hx hb dX12_make_126 ?_
                          refine lv_goto (tgt := 132) hx hb dX12_make_127 (by decide) ?_
                          refine li_iast (g := (ρ 28)) (W2 := wM am ty τ (up (up ρ 27 (ug (ug (ug (ρ 27) 0 y57_0) 1 y57_1_0) 2 y57_2_0)) 28 (ug (ρ 28) 0 5)) ++ cs) hx hb hK hP hD hS 17 0 (aM_17 _ _ _ _ _) rfl (by decide) (by decide) (by decide) rfl dX12_make_132 (fun H locs hP hD hS => ?_)
                          refine lv_aload_n hx hb dX12_make_133 rfl (lv_at hl 5 rfl) ?_
                          refine va_get (D := G) (ci := 11) (v := .ref (am 17)) (C := RX12) (T := TX12) (N := 52) hx hb hts in_X12 hown hK hP 0 (aM_0 _ _ _ _ _) rfl 28 (by decide) (hts _ q1293) (fun _ h9 => h9) rfl dX12_make_134 ?_
                          refine li_iconst hx hb dX12_make_137 ?_
                          refine lv_iload_n hx hb dX12_make_138 rfl (lv_at hl 7 rfl) ?_
                          refine li_if_eq (tgt := 146) hx hb ⟨by decide, by decide⟩ dX12_make_139 (by decide) (fun c139 => ?_) (fun c139 => ?_)
                          · exact absurd c139 (by decide)
                          · refine li_iconst hx hb dX12_make_142 ?_
                            refine lv_goto (tgt := 148) hx hb dX12_make_143 (by decide) ?_
                            refine li_iast (g := (ug (ρ 28) 0 5)) (W2 := wM am ty τ (up (up ρ 27 (ug (ug (ug (ρ 27) 0 y57_0) 1 y57_1_0) 2 y57_2_0)) 28 (ug (ug (ρ 28) 0 5) 1 5)) ++ cs) hx hb hK hP hD hS 17 0 (aM_17 _ _ _ _ _) rfl (by decide) (by decide) (by decide) rfl dX12_make_148 (fun H locs hP hD hS => ?_)
                            exact eMv hQ hx hb hr hlk hP hD hS (Nat.le_of_ble_eq_true rfl) (Nat.le_of_ble_eq_true rfl) dX12_make_149 (⟨rfl, by first | (exfalso; omega) | (have e1 : (ug (ug (ug (ρ 27) 0 y57_0) 1 y57_1_0) 2 y57_2_0) = mvw (m1 / 1000 % 10) (m1 % 10) (ρ 27) := (by have u1 : (ug (ρ 27) 0 y57_0) 1 = ρ 27 1 := rfl; have u2 : (ug (ug (ρ 27) 0 y57_0) 1 y57_1_0) 2 = ρ 27 2 := rfl; funext i; by_cases i0 : i = 0; (subst i0; show y57_0 = mvw (m1 / 1000 % 10) (m1 % 10) (ρ 27) 0; rw [mvw_0]; split <;> omega); by_cases i1 : i = 1; (subst i1; show y57_1_0 = mvw (m1 / 1000 % 10) (m1 % 10) (ρ 27) 1; rw [mvw_1]; split <;> omega); by_cases i2 : i = 2; (subst i2; show y57_2_0 = mvw (m1 / 1000 % 10) (m1 % 10) (ρ 27) 2; rw [mvw_2]; split <;> omega); (rw [mvw_x i0 i1 i2, ug_n i2, ug_n i1, ug_n i0])); have e3 := congrArg (fun (a : Int → Int) => wM am ty τ (up (up ρ 27 a) 28 (ug (ug (ρ 28) 0 5) 1 5)) ++ cs) e1; exact e3)⟩)
                    · refine lv_aload_n hx hb dX12_make_104 rfl (lv_at hl 5 rfl) ?_
                      refine va_get (D := G) (ci := 11) (v := .ref (am 17)) (C := RX12) (T := TX12) (N := 52) hx hb hts in_X12 hown hK hP 0 (aM_0 _ _ _ _ _) rfl 28 (by decide) (hts _ q1293) (fun _ h9 => h9) rfl dX12_make_105 ?_
                      refine lv_iload hx hb dX12_make_108 (lv_at hl 2 rfl) ?_
                      refine li_iconst hx hb dX12_make_110 ?_
                      refine li_iast (g := (ρ 28)) (W2 := wM am ty τ (up (up ρ 27 (ug (ug (ug (ρ 27) 0 y57_0) 1 y57_1_0) 2 y57_2_0)) 28 (ug (ρ 28) ((m1 / 100) % 10) 5)) ++ cs) hx hb hK hP hD hS 17 0 (aM_17 _ _ _ _ _) rfl (by omega) (by omega) (by decide) rfl dX12_make_111 (fun H locs hP hD hS => ?_)
                      refine lv_iload_n hx hb dX12_make_112 rfl (lv_at hl 4 rfl) ?_
                      refine li_iconst hx hb dX12_make_113 ?_
                      refine li_icmp_ne (tgt := 149) hx hb ⟨by omega, by omega⟩ ⟨by decide, by decide⟩ dX12_make_114 (by decide) (fun c114 => ?_) (fun c114 => ?_)
                      · exact eMv hQ hx hb hr hlk hP hD hS (Nat.le_of_ble_eq_true rfl) (Nat.le_of_ble_eq_true rfl) dX12_make_149 (⟨rfl, by first | (exfalso; omega) | (have e1 : (ug (ug (ug (ρ 27) 0 y57_0) 1 y57_1_0) 2 y57_2_0) = mvw (m1 / 1000 % 10) (m1 % 10) (ρ 27) := (by have u1 : (ug (ρ 27) 0 y57_0) 1 = ρ 27 1 := rfl; have u2 : (ug (ug (ρ 27) 0 y57_0) 1 y57_1_0) 2 = ρ 27 2 := rfl; funext i; by_cases i0 : i = 0; (subst i0; show y57_0 = mvw (m1 / 1000 % 10) (m1 % 10) (ρ 27) 0; rw [mvw_0]; split <;> omega); by_cases i1 : i = 1; (subst i1; show y57_1_0 = mvw (m1 / 1000 % 10) (m1 % 10) (ρ 27) 1; rw [mvw_1]; split <;> omega); by_cases i2 : i = 2; (subst i2; show y57_2_0 = mvw (m1 / 1000 % 10) (m1 % 10) (ρ 27) 2; rw [mvw_2]; split <;> omega); (rw [mvw_x i0 i1 i2, ug_n i2, ug_n i1, ug_n i0])); have e3 := congrArg (fun (a : Int → Int) => wM am ty τ (up (up ρ 27 a) 28 (ug (ug (ρ 28) 0 5) 1 5)) ++ cs) e1; exact e3)⟩)
                      · refine lv_aload_n hx hb dX12_make_117 rfl (lv_at hl 5 rfl) ?_
                        refine va_get (D := G) (ci := 11) (v := .ref (am 17)) (C := RX12) (T := TX12) (N := 52) hx hb hts in_X12 hown hK hP 0 (aM_0 _ _ _ _ _) rfl 28 (by decide) (hts _ q1293) (fun _ h9 => h9) rfl dX12_make_118 ?_
                        refine li_iconst hx hb dX12_make_121 ?_
                        refine lv_iload_n hx hb dX12_make_122 rfl (lv_at hl 7 rfl) ?_
                        refine li_if_eq (tgt := 130) hx hb ⟨by decide, by decide⟩ dX12_make_123 (by decide) (fun c123 => ?_) (fun c123 => ?_)
                        · exact absurd c123 (by decide)
                        · refine li_iconst hx hb dX12_make_126 ?_
                          refine lv_goto (tgt := 132) hx hb dX12_make_127 (by decide) ?_
                          refine li_iast (g := (ug (ρ 28) ((m1 / 100) % 10) 5)) (W2 := wM am ty τ (up (up ρ 27 (ug (ug (ug (ρ 27) 0 y57_0) 1 y57_1_0) 2 y57_2_0)) 28 (ug (ug (ρ 28) ((m1 / 100) % 10) 5) 0 5)) ++ cs) hx hb hK hP hD hS 17 0 (aM_17 _ _ _ _ _) rfl (by decide) (by decide) (by decide) rfl dX12_make_132 (fun H locs hP hD hS => ?_)
                          refine lv_aload_n hx hb dX12_make_133 rfl (lv_at hl 5 rfl) ?_
                          refine va_get (D := G) (ci := 11) (v := .ref (am 17)) (C := RX12) (T := TX12) (N := 52) hx hb hts in_X12 hown hK hP 0 (aM_0 _ _ _ _ _) rfl 28 (by decide) (hts _ q1293) (fun _ h9 => h9) rfl dX12_make_134 ?_
                          refine li_iconst hx hb dX12_make_137 ?_
                          refine lv_iload_n hx hb dX12_make_138 rfl (lv_at hl 7 rfl) ?_
                          refine li_if_eq (tgt := 146) hx hb ⟨by decide, by decide⟩ dX12_make_139 (by decide) (fun c139 => ?_) (fun c139 => ?_)
                          · exact absurd c139 (by decide)
                          · refine li_iconst hx hb dX12_make_142 ?_
                            refine lv_goto (tgt := 148) hx hb dX12_make_143 (by decide) ?_
                            refine li_iast (g := (ug (ug (ρ 28) ((m1 / 100) % 10) 5) 0 5)) (W2 := wM am ty τ (up (up ρ 27 (ug (ug (ug (ρ 27) 0 y57_0) 1 y57_1_0) 2 y57_2_0)) 28 (ug (ug (ug (ρ 28) ((m1 / 100) % 10) 5) 0 5) 1 5)) ++ cs) hx hb hK hP hD hS 17 0 (aM_17 _ _ _ _ _) rfl (by decide) (by decide) (by decide) rfl dX12_make_148 (fun H locs hP hD hS => ?_)
                            exact eMv hQ hx hb hr hlk hP hD hS (Nat.le_of_ble_eq_true rfl) (Nat.le_of_ble_eq_true rfl) dX12_make_149 (⟨rfl, by first | (exfalso; omega) | (have e1 : (ug (ug (ug (ρ 27) 0 y57_0) 1 y57_1_0) 2 y57_2_0) = mvw (m1 / 1000 % 10) (m1 % 10) (ρ 27) := (by have u1 : (ug (ρ 27) 0 y57_0) 1 = ρ 27 1 := rfl; have u2 : (ug (ug (ρ 27) 0 y57_0) 1 y57_1_0) 2 = ρ 27 2 := rfl; funext i; by_cases i0 : i = 0; (subst i0; show y57_0 = mvw (m1 / 1000 % 10) (m1 % 10) (ρ 27) 0; rw [mvw_0]; split <;> omega); by_cases i1 : i = 1; (subst i1; show y57_1_0 = mvw (m1 / 1000 % 10) (m1 % 10) (ρ 27) 1; rw [mvw_1]; split <;> omega); by_cases i2 : i = 2; (subst i2; show y57_2_0 = mvw (m1 / 1000 % 10) (m1 % 10) (ρ 27) 2; rw [mvw_2]; split <;> omega); (rw [mvw_x i0 i1 i2, ug_n i2, ug_n i1, ug_n i0])); have e3 := congrArg (fun (a : Int → Int) => wM am ty τ (up (up ρ 27 a) 28 (ug (ug (ρ 28) 0 5) 1 5)) ++ cs) e1; exact e3)⟩)
                  · refine lv_aload_n hx hb dX12_make_90 rfl (lv_at hl 5 rfl) ?_
                    refine va_get (D := G) (ci := 11) (v := .ref (am 17)) (C := RX12) (T := TX12) (N := 52) hx hb hts in_X12 hown hK hP 0 (aM_0 _ _ _ _ _) rfl 28 (by decide) (hts _ q1293) (fun _ h9 => h9) rfl dX12_make_91 ?_
                    refine lv_iload hx hb dX12_make_94 (lv_at hl 2 rfl) ?_
                    refine lv_iload hx hb dX12_make_96 (lv_at hl 1 rfl) ?_
                    refine li_iast (g := (ρ 28)) (W2 := wM am ty τ (up (up ρ 27 (ug (ug (ug (ρ 27) 0 y57_0) 1 y57_1_0) 2 y57_2_0)) 28 (ug (ρ 28) ((m1 / 100) % 10) (m1 % 10))) ++ cs) hx hb hK hP hD hS 17 0 (aM_17 _ _ _ _ _) rfl (by omega) (by omega) (by decide) rfl dX12_make_98 (fun H locs hP hD hS => ?_)
                    refine lv_iload_n hx hb dX12_make_99 rfl (lv_at hl 4 rfl) ?_
                    refine li_iconst hx hb dX12_make_100 ?_
                    refine li_icmp_ne (tgt := 112) hx hb ⟨by omega, by omega⟩ ⟨by decide, by decide⟩ dX12_make_101 (by decide) (fun c101 => ?_) (fun c101 => ?_)
                    · refine lv_iload_n hx hb dX12_make_112 rfl (lv_at hl 4 rfl) ?_
                      refine li_iconst hx hb dX12_make_113 ?_
                      refine li_icmp_ne (tgt := 149) hx hb ⟨by omega, by omega⟩ ⟨by decide, by decide⟩ dX12_make_114 (by decide) (fun c114 => ?_) (fun c114 => ?_)
                      · exact eMv hQ hx hb hr hlk hP hD hS (Nat.le_of_ble_eq_true rfl) (Nat.le_of_ble_eq_true rfl) dX12_make_149 (⟨rfl, by first | (exfalso; omega) | (have e1 : (ug (ug (ug (ρ 27) 0 y57_0) 1 y57_1_0) 2 y57_2_0) = mvw (m1 / 1000 % 10) (m1 % 10) (ρ 27) := (by have u1 : (ug (ρ 27) 0 y57_0) 1 = ρ 27 1 := rfl; have u2 : (ug (ug (ρ 27) 0 y57_0) 1 y57_1_0) 2 = ρ 27 2 := rfl; funext i; by_cases i0 : i = 0; (subst i0; show y57_0 = mvw (m1 / 1000 % 10) (m1 % 10) (ρ 27) 0; rw [mvw_0]; split <;> omega); by_cases i1 : i = 1; (subst i1; show y57_1_0 = mvw (m1 / 1000 % 10) (m1 % 10) (ρ 27) 1; rw [mvw_1]; split <;> omega); by_cases i2 : i = 2; (subst i2; show y57_2_0 = mvw (m1 / 1000 % 10) (m1 % 10) (ρ 27) 2; rw [mvw_2]; split <;> omega); (rw [mvw_x i0 i1 i2, ug_n i2, ug_n i1, ug_n i0])); have e3 := congrArg (fun (a : Int → Int) => wM am ty τ (up (up ρ 27 a) 28 (ug (ug (ρ 28) 0 5) 1 5)) ++ cs) e1; exact e3)⟩)
                      · refine lv_aload_n hx hb dX12_make_117 rfl (lv_at hl 5 rfl) ?_
                        refine va_get (D := G) (ci := 11) (v := .ref (am 17)) (C := RX12) (T := TX12) (N := 52) hx hb hts in_X12 hown hK hP 0 (aM_0 _ _ _ _ _) rfl 28 (by decide) (hts _ q1293) (fun _ h9 => h9) rfl dX12_make_118 ?_
                        refine li_iconst hx hb dX12_make_121 ?_
                        refine lv_iload_n hx hb dX12_make_122 rfl (lv_at hl 7 rfl) ?_
                        refine li_if_eq (tgt := 130) hx hb ⟨by decide, by decide⟩ dX12_make_123 (by decide) (fun c123 => ?_) (fun c123 => ?_)
                        · exact absurd c123 (by decide)
                        · refine li_iconst hx hb dX12_make_126 ?_
                          refine lv_goto (tgt := 132) hx hb dX12_make_127 (by decide) ?_
                          refine li_iast (g := (ug (ρ 28) ((m1 / 100) % 10) (m1 % 10))) (W2 := wM am ty τ (up (up ρ 27 (ug (ug (ug (ρ 27) 0 y57_0) 1 y57_1_0) 2 y57_2_0)) 28 (ug (ug (ρ 28) ((m1 / 100) % 10) (m1 % 10)) 0 5)) ++ cs) hx hb hK hP hD hS 17 0 (aM_17 _ _ _ _ _) rfl (by decide) (by decide) (by decide) rfl dX12_make_132 (fun H locs hP hD hS => ?_)
                          refine lv_aload_n hx hb dX12_make_133 rfl (lv_at hl 5 rfl) ?_
                          refine va_get (D := G) (ci := 11) (v := .ref (am 17)) (C := RX12) (T := TX12) (N := 52) hx hb hts in_X12 hown hK hP 0 (aM_0 _ _ _ _ _) rfl 28 (by decide) (hts _ q1293) (fun _ h9 => h9) rfl dX12_make_134 ?_
                          refine li_iconst hx hb dX12_make_137 ?_
                          refine lv_iload_n hx hb dX12_make_138 rfl (lv_at hl 7 rfl) ?_
                          refine li_if_eq (tgt := 146) hx hb ⟨by decide, by decide⟩ dX12_make_139 (by decide) (fun c139 => ?_) (fun c139 => ?_)
                          · exact absurd c139 (by decide)
                          · refine li_iconst hx hb dX12_make_142 ?_
                            refine lv_goto (tgt := 148) hx hb dX12_make_143 (by decide) ?_
                            refine li_iast (g := (ug (ug (ρ 28) ((m1 / 100) % 10) (m1 % 10)) 0 5)) (W2 := wM am ty τ (up (up ρ 27 (ug (ug (ug (ρ 27) 0 y57_0) 1 y57_1_0) 2 y57_2_0)) 28 (ug (ug (ug (ρ 28) ((m1 / 100) % 10) (m1 % 10)) 0 5) 1 5)) ++ cs) hx hb hK hP hD hS 17 0 (aM_17 _ _ _ _ _) rfl (by decide) (by decide) (by decide) rfl dX12_make_148 (fun H locs hP hD hS => ?_)
                            exact eMv hQ hx hb hr hlk hP hD hS (Nat.le_of_ble_eq_true rfl) (Nat.le_of_ble_eq_true rfl) dX12_make_149 (⟨rfl, by first | (exfalso; omega) | (have e1 : (ug (ug (ug (ρ 27) 0 y57_0) 1 y57_1_0) 2 y57_2_0) = mvw (m1 / 1000 % 10) (m1 % 10) (ρ 27) := (by have u1 : (ug (ρ 27) 0 y57_0) 1 = ρ 27 1 := rfl; have u2 : (ug (ug (ρ 27) 0 y57_0) 1 y57_1_0) 2 = ρ 27 2 := rfl; funext i; by_cases i0 : i = 0; (subst i0; show y57_0 = mvw (m1 / 1000 % 10) (m1 % 10) (ρ 27) 0; rw [mvw_0]; split <;> omega); by_cases i1 : i = 1; (subst i1; show y57_1_0 = mvw (m1 / 1000 % 10) (m1 % 10) (ρ 27) 1; rw [mvw_1]; split <;> omega); by_cases i2 : i = 2; (subst i2; show y57_2_0 = mvw (m1 / 1000 % 10) (m1 % 10) (ρ 27) 2; rw [mvw_2]; split <;> omega); (rw [mvw_x i0 i1 i2, ug_n i2, ug_n i1, ug_n i0])); have e3 := congrArg (fun (a : Int → Int) => wM am ty τ (up (up ρ 27 a) 28 (ug (ug (ρ 28) 0 5) 1 5)) ++ cs) e1; exact e3)⟩)
                    · refine lv_aload_n hx hb dX12_make_104 rfl (lv_at hl 5 rfl) ?_
                      refine va_get (D := G) (ci := 11) (v := .ref (am 17)) (C := RX12) (T := TX12) (N := 52) hx hb hts in_X12 hown hK hP 0 (aM_0 _ _ _ _ _) rfl 28 (by decide) (hts _ q1293) (fun _ h9 => h9) rfl dX12_make_105 ?_
                      refine lv_iload hx hb dX12_make_108 (lv_at hl 2 rfl) ?_
                      refine li_iconst hx hb dX12_make_110 ?_
                      refine li_iast (g := (ug (ρ 28) ((m1 / 100) % 10) (m1 % 10))) (W2 := wM am ty τ (up (up ρ 27 (ug (ug (ug (ρ 27) 0 y57_0) 1 y57_1_0) 2 y57_2_0)) 28 (ug (ug (ρ 28) ((m1 / 100) % 10) (m1 % 10)) ((m1 / 100) % 10) 5)) ++ cs) hx hb hK hP hD hS 17 0 (aM_17 _ _ _ _ _) rfl (by omega) (by omega) (by decide) rfl dX12_make_111 (fun H locs hP hD hS => ?_)
                      refine lv_iload_n hx hb dX12_make_112 rfl (lv_at hl 4 rfl) ?_
                      refine li_iconst hx hb dX12_make_113 ?_
                      refine li_icmp_ne (tgt := 149) hx hb ⟨by omega, by omega⟩ ⟨by decide, by decide⟩ dX12_make_114 (by decide) (fun c114 => ?_) (fun c114 => ?_)
                      · exact eMv hQ hx hb hr hlk hP hD hS (Nat.le_of_ble_eq_true rfl) (Nat.le_of_ble_eq_true rfl) dX12_make_149 (⟨rfl, by first | (exfalso; omega) | (have e1 : (ug (ug (ug (ρ 27) 0 y57_0) 1 y57_1_0) 2 y57_2_0) = mvw (m1 / 1000 % 10) (m1 % 10) (ρ 27) := (by have u1 : (ug (ρ 27) 0 y57_0) 1 = ρ 27 1 := rfl; have u2 : (ug (ug (ρ 27) 0 y57_0) 1 y57_1_0) 2 = ρ 27 2 := rfl; funext i; by_cases i0 : i = 0; (subst i0; show y57_0 = mvw (m1 / 1000 % 10) (m1 % 10) (ρ 27) 0; rw [mvw_0]; split <;> omega); by_cases i1 : i = 1; (subst i1; show y57_1_0 = mvw (m1 / 1000 % 10) (m1 % 10) (ρ 27) 1; rw [mvw_1]; split <;> omega); by_cases i2 : i = 2; (subst i2; show y57_2_0 = mvw (m1 / 1000 % 10) (m1 % 10) (ρ 27) 2; rw [mvw_2]; split <;> omega); (rw [mvw_x i0 i1 i2, ug_n i2, ug_n i1, ug_n i0])); have e3 := congrArg (fun (a : Int → Int) => wM am ty τ (up (up ρ 27 a) 28 (ug (ug (ρ 28) 0 5) 1 5)) ++ cs) e1; exact e3)⟩)
                      · refine lv_aload_n hx hb dX12_make_117 rfl (lv_at hl 5 rfl) ?_
                        refine va_get (D := G) (ci := 11) (v := .ref (am 17)) (C := RX12) (T := TX12) (N := 52) hx hb hts in_X12 hown hK hP 0 (aM_0 _ _ _ _ _) rfl 28 (by decide) (hts _ q1293) (fun _ h9 => h9) rfl dX12_make_118 ?_
                        refine li_iconst hx hb dX12_make_121 ?_
                        refine lv_iload_n hx hb dX12_make_122 rfl (lv_at hl 7 rfl) ?_
                        refine li_if_eq (tgt := 130) hx hb ⟨by decide, by decide⟩ dX12_make_123 (by decide) (fun c123 => ?_) (fun c123 => ?_)
                        · exact absurd c123 (by decide)
                        · refine li_iconst hx hb dX12_make_126 ?_
                          refine lv_goto (tgt := 132) hx hb dX12_make_127 (by decide) ?_
                          refine li_iast (g := (ug (ug (ρ 28) ((m1 / 100) % 10) (m1 % 10)) ((m1 / 100) % 10) 5)) (W2 := wM am ty τ (up (up ρ 27 (ug (ug (ug (ρ 27) 0 y57_0) 1 y57_1_0) 2 y57_2_0)) 28 (ug (ug (ug (ρ 28) ((m1 / 100) % 10) (m1 % 10)) ((m1 / 100) % 10) 5) 0 5)) ++ cs) hx hb hK hP hD hS 17 0 (aM_17 _ _ _ _ _) rfl (by decide) (by decide) (by decide) rfl dX12_make_132 (fun H locs hP hD hS => ?_)
                          refine lv_aload_n hx hb dX12_make_133 rfl (lv_at hl 5 rfl) ?_
                          refine va_get (D := G) (ci := 11) (v := .ref (am 17)) (C := RX12) (T := TX12) (N := 52) hx hb hts in_X12 hown hK hP 0 (aM_0 _ _ _ _ _) rfl 28 (by decide) (hts _ q1293) (fun _ h9 => h9) rfl dX12_make_134 ?_
                          refine li_iconst hx hb dX12_make_137 ?_
                          refine lv_iload_n hx hb dX12_make_138 rfl (lv_at hl 7 rfl) ?_
                          refine li_if_eq (tgt := 146) hx hb ⟨by decide, by decide⟩ dX12_make_139 (by decide) (fun c139 => ?_) (fun c139 => ?_)
                          · exact absurd c139 (by decide)
                          · refine li_iconst hx hb dX12_make_142 ?_
                            refine lv_goto (tgt := 148) hx hb dX12_make_143 (by decide) ?_
                            refine li_iast (g := (ug (ug (ug (ρ 28) ((m1 / 100) % 10) (m1 % 10)) ((m1 / 100) % 10) 5) 0 5)) (W2 := wM am ty τ (up (up ρ 27 (ug (ug (ug (ρ 27) 0 y57_0) 1 y57_1_0) 2 y57_2_0)) 28 (ug (ug (ug (ug (ρ 28) ((m1 / 100) % 10) (m1 % 10)) ((m1 / 100) % 10) 5) 0 5) 1 5)) ++ cs) hx hb hK hP hD hS 17 0 (aM_17 _ _ _ _ _) rfl (by decide) (by decide) (by decide) rfl dX12_make_148 (fun H locs hP hD hS => ?_)
                            exact eMv hQ hx hb hr hlk hP hD hS (Nat.le_of_ble_eq_true rfl) (Nat.le_of_ble_eq_true rfl) dX12_make_149 (⟨rfl, by first | (exfalso; omega) | (have e1 : (ug (ug (ug (ρ 27) 0 y57_0) 1 y57_1_0) 2 y57_2_0) = mvw (m1 / 1000 % 10) (m1 % 10) (ρ 27) := (by have u1 : (ug (ρ 27) 0 y57_0) 1 = ρ 27 1 := rfl; have u2 : (ug (ug (ρ 27) 0 y57_0) 1 y57_1_0) 2 = ρ 27 2 := rfl; funext i; by_cases i0 : i = 0; (subst i0; show y57_0 = mvw (m1 / 1000 % 10) (m1 % 10) (ρ 27) 0; rw [mvw_0]; split <;> omega); by_cases i1 : i = 1; (subst i1; show y57_1_0 = mvw (m1 / 1000 % 10) (m1 % 10) (ρ 27) 1; rw [mvw_1]; split <;> omega); by_cases i2 : i = 2; (subst i2; show y57_2_0 = mvw (m1 / 1000 % 10) (m1 % 10) (ρ 27) 2; rw [mvw_2]; split <;> omega); (rw [mvw_x i0 i1 i2, ug_n i2, ug_n i1, ug_n i0])); have e3 := congrArg (fun (a : Int → Int) => wM am ty τ (up (up ρ 27 a) 28 (ug (ug (ρ 28) 0 5) 1 5)) ++ cs) e1; exact e3)⟩)
              · exfalso
                omega
            refine li_icmp_ne (tgt := 65) hx hb ⟨by omega, by omega⟩ ⟨by decide, by decide⟩ dX12_make_57 (by decide) (fun c57 => ?_) (fun c57 => ?_)
            · refine lv_aload_n hx hb dX12_make_65 rfl (lv_at hl 5 rfl) ?_
              refine va_get (D := G) (ci := 11) (v := .ref (am 16)) (C := RX12) (T := TX12) (N := 52) hx hb hts in_X12 hown hK hP 0 (aM_0 _ _ _ _ _) rfl 27 (by decide) (hts _ q1292) (fun _ h9 => h9) rfl dX12_make_66 ?_
              refine lv_iload hx hb dX12_make_69 (lv_at hl 0 rfl) ?_
              refine li_iald (g := (ug (ug (ρ 27) 0 y57_0) 1 y57_1_0)) hx hb hK hP 16 0 (aM_16 _ _ _ _ _) rfl (by decide) (by decide) (by decide) dX12_make_71 ?_
              exact J57_2 _ (.inl (⟨c57, rfl⟩)) H locs hP hD hS ls (lv_sub hl [0, 1, 2, 3, 4, 5, 6, 7] rfl)
            · refine lv_iload hx hb dX12_make_60 (lv_at hl 1 rfl) ?_
              refine lv_goto (tgt := 72) hx hb dX12_make_62 (by decide) ?_
              exact J57_2 _ (.inr (⟨c57, rfl⟩)) H locs hP hD hS ls (lv_sub hl [0, 1, 2, 3, 4, 5, 6, 7] rfl)
        refine li_icmp_ne (tgt := 65) hx hb ⟨by omega, by omega⟩ ⟨by decide, by decide⟩ dX12_make_57 (by decide) (fun c57 => ?_) (fun c57 => ?_)
        · refine lv_aload_n hx hb dX12_make_65 rfl (lv_at hl 5 rfl) ?_
          refine va_get (D := G) (ci := 11) (v := .ref (am 16)) (C := RX12) (T := TX12) (N := 52) hx hb hts in_X12 hown hK hP 0 (aM_0 _ _ _ _ _) rfl 27 (by decide) (hts _ q1292) (fun _ h9 => h9) rfl dX12_make_66 ?_
          refine lv_iload hx hb dX12_make_69 (lv_at hl 0 rfl) ?_
          refine li_iald (g := (ug (ρ 27) 0 y57_0)) hx hb hK hP 16 0 (aM_16 _ _ _ _ _) rfl (by decide) (by decide) (by decide) dX12_make_71 ?_
          exact J57_1 _ (.inl (⟨c57, rfl⟩)) H locs hP hD hS ls (lv_sub hl [0, 1, 2, 3, 4, 5, 6, 7] rfl)
        · refine lv_iload hx hb dX12_make_60 (lv_at hl 1 rfl) ?_
          refine lv_goto (tgt := 72) hx hb dX12_make_62 (by decide) ?_
          exact J57_1 _ (.inr (⟨c57, rfl⟩)) H locs hP hD hS ls (lv_sub hl [0, 1, 2, 3, 4, 5, 6, 7] rfl)
    refine li_icmp_ne (tgt := 65) hx hb ⟨by omega, by omega⟩ ⟨by decide, by decide⟩ dX12_make_57 (by decide) (fun c57 => ?_) (fun c57 => ?_)
    · refine lv_aload_n hx hb dX12_make_65 rfl (lv_at hl 5 rfl) ?_
      refine va_get (D := G) (ci := 11) (v := .ref (am 16)) (C := RX12) (T := TX12) (N := 52) hx hb hts in_X12 hown hK hP 0 (aM_0 _ _ _ _ _) rfl 27 (by decide) (hts _ q1292) (fun _ h9 => h9) rfl dX12_make_66 ?_
      refine lv_iload hx hb dX12_make_69 (lv_at hl 0 rfl) ?_
      refine li_iald (g := (ρ 27)) hx hb hK hP 16 0 (aM_16 _ _ _ _ _) rfl (by decide) (by decide) (by decide) dX12_make_71 ?_
      have r72 := hs0 0
      exact J57 _ (.inl (⟨c57, rfl⟩)) H locs hP hD hS ls (lv_sub hl [0, 1, 2, 3, 4, 5, 6, 7] rfl)
    · refine lv_iload hx hb dX12_make_60 (lv_at hl 1 rfl) ?_
      refine lv_goto (tgt := 72) hx hb dX12_make_62 (by decide) ?_
      exact J57 _ (.inr (⟨c57, rfl⟩)) H locs hP hD hS ls (lv_sub hl [0, 1, 2, 3, 4, 5, 6, 7] rfl)
set_option maxHeartbeats 4000000 in
theorem m_keepStateM (l : Launch) (G : va_G) (am : Nat → Nat) (ty : Nat → ClassId) (τ ρ : mem) (cs : va_W)  (F : mem) (hF : okF F) (hSm : Sim F τ) (hSt : wfS (ρ 27) (ρ 28)) : cM l yX12_keepState (ws_ yX12_keepState cX12_keepState 2 none) (rm4 0 0 0 0) G ty (wM am ty τ ρ ++ cs) [.ref (am 0)] 0 0 (fun r W' => ∃ (gp : Int → Int) (gr : Int → Int), r = none ∧ W' = wM am ty (up (up τ 9 gp) 10 gr) ρ ++ cs ∧ (∀ i, 0 ≤ i → i < F 9 0 → gp i = (ρ 27) i) ∧ (∀ i, 0 ≤ i → i < F 10 0 → gr i = (ρ 28) i)) := by
  refine cM.of (by decide) (Nat.le_of_ble_eq_true rfl) ?_
  intro p e s m args below meth c A Q H locs hQ hx hb hr hml hown hlk hname hts hK hP hD hS hA hX ls hl
  have hl : lv_has ls 2 [(0, .ref (am 0))] := hl
  obtain ⟨hW, hWS, hlg⟩ := id hF
  obtain ⟨hw0, hw1, hw2, hw3, hw4, hw5, h8a, h8b, h9a, h9b, h10a, h10b⟩ := id hW
  obtain ⟨mL, mP, mR, mC, mK, mM, mA, mB, mD⟩ := id hSm
  obtain ⟨hs0, hs1⟩ := id hSt
  refine li_iconst hx hb dX12_keepState_0 ?_
  refine lv_istore_n (lv' := [(1, .int (ii 0)), (0, .ref (am 0))]) hx hb dX12_keepState_1 rfl hl (by decide) rfl (fun ls hl => ?_)
  have X2 : ∀ (p1 : Int) (g1 : Int → Int) (_ : ∀ i, 0 ≤ i → i < F 9 0 → g1 i = ρ 27 i) (H : Heap) (locs : List Loc) (_ : va_P G gcl (wM am ty (up τ 9 g1) ρ ++ cs) H) (_ : va_D A (wM am ty (up τ 9 g1) ρ ++ cs)) (_ : va_S A s.heap H locs) (ls : Array Slot), lv_has ls 2 [(0, .ref (am 0))] → W p l e (rm4 0 0 0 0) s m args below meth c H locs 0 0 Q (F0 m 28 ls []) := by
    intro p1 g1 hgp H locs hP hD hS ls hl
    refine li_iconst hx hb dX12_keepState_28 ?_
    refine lv_istore_n (lv' := [(1, .int (ii 0)), (0, .ref (am 0))]) hx hb dX12_keepState_29 rfl hl (by decide) rfl (fun ls hl => ?_)
    have L30 : ∀ (n : Nat) (p1 : Int) (g2 : Int → Int) (_ : 0 ≤ p1) (_ : p1 ≤ F 10 0) (_ : ∀ i, 0 ≤ i → i < p1 → g2 i = ρ 28 i) (_ : (F 10 0 - p1).toNat < n) (H : Heap) (locs : List Loc) (_ : va_P G gcl (wM am ty (up (up τ 9 g1) 10 g2) ρ ++ cs) H) (_ : va_D A (wM am ty (up (up τ 9 g1) 10 g2) ρ ++ cs)) (_ : va_S A s.heap H locs) (ls : Array Slot), lv_has ls 2 [(1, .int (ii p1)), (0, .ref (am 0))] → W p l e (rm4 0 0 0 0) s m args below meth c H locs 0 0 Q (F0 m 30 ls []) := by
      intro n
      induction n with
      | zero =>
        intro p1 g2 hp0 hp1 hgr hm
        exact absurd hm (Nat.not_lt_zero _)
      | succ n ih =>
        intro p1 g2 hp0 hp1 hgr hm H locs hP hD hS ls hl
        refine lv_iload_n hx hb dX12_keepState_30 rfl (lv_at hl 0 rfl) ?_
        refine lv_aload_n hx hb dX12_keepState_31 rfl (lv_at hl 1 rfl) ?_
        refine va_get (D := G) (ci := 11) (v := .int (ii (τ 7 0))) (C := RX12) (T := TX12) (N := 52) hx hb hts in_X12 hown hK hP 0 (aM_0 _ _ _ _ _) rfl 7 (by decide) (hts _ q1272) (fun _ h9 => h9) rfl dX12_keepState_32 ?_
        refine li_icmp_ge (tgt := 56) hx hb ⟨by omega, by omega⟩ ⟨by omega, by omega⟩ dX12_keepState_35 (by decide) (fun c35 => ?_) (fun c35 => ?_)
        · exact eMv hQ hx hb hr hlk hP hD hS (Nat.le_of_ble_eq_true rfl) (Nat.le_of_ble_eq_true rfl) dX12_keepState_56 (⟨g1, g2, rfl, rfl, hgp, fun i a b => hgr i a (by omega)⟩)
        · refine lv_aload_n hx hb dX12_keepState_38 rfl (lv_at hl 1 rfl) ?_
          refine va_get (D := G) (ci := 11) (v := .ref (am 8)) (C := RX12) (T := TX12) (N := 52) hx hb hts in_X12 hown hK hP 0 (aM_0 _ _ _ _ _) rfl 10 (by decide) (hts _ q1275) (fun _ h9 => h9) rfl dX12_keepState_39 ?_
          refine lv_iload_n hx hb dX12_keepState_42 rfl (lv_at hl 0 rfl) ?_
          refine lv_aload_n hx hb dX12_keepState_43 rfl (lv_at hl 1 rfl) ?_
          refine va_get (D := G) (ci := 11) (v := .ref (am 17)) (C := RX12) (T := TX12) (N := 52) hx hb hts in_X12 hown hK hP 0 (aM_0 _ _ _ _ _) rfl 28 (by decide) (hts _ q1293) (fun _ h9 => h9) rfl dX12_keepState_44 ?_
          refine lv_iload_n hx hb dX12_keepState_47 rfl (lv_at hl 0 rfl) ?_
          refine li_iald (g := (ρ 28)) hx hb hK hP 17 0 (aM_17 _ _ _ _ _) rfl (by omega) (by omega) (by decide) dX12_keepState_48 ?_
          have r49 := hs1 p1
          refine li_iast (g := g2) (W2 := wM am ty (up (up τ 9 g1) 10 (ug g2 p1 (ρ 28 p1))) ρ ++ cs) hx hb hK hP hD hS 8 0 (aM_8 _ _ _ _ _) rfl (by omega) (by omega) (by decide) rfl dX12_keepState_49 (fun H locs hP hD hS => ?_)
          refine li_iinc (a := p1) (lv' := [(1, .int (ii (p1 + 1))), (0, .ref (am 0))]) hx hb dX12_keepState_50 hl (k := 0) rfl (by decide) rfl (fun ls hl => ?_)
          refine lv_goto (tgt := 30) hx hb dX12_keepState_53 (by decide) ?_
          exact ih (p1 + 1) (ug g2 p1 (ρ 28 p1)) (by omega) (by omega) (cpy_s hgr) (by omega) H locs hP hD hS ls (lv_sub hl [0, 1] rfl)
    exact L30 _ 0 (τ 10) (by omega) (by omega) (fun i a b => by omega) (Nat.lt_succ_self _) H locs hP hD hS ls (lv_sub hl [0, 1] rfl)
  have L2 : ∀ (n : Nat) (p1 : Int) (g1 : Int → Int) (_ : 0 ≤ p1) (_ : p1 ≤ F 9 0) (_ : ∀ i, 0 ≤ i → i < p1 → g1 i = ρ 27 i) (_ : (F 9 0 - p1).toNat < n) (H : Heap) (locs : List Loc) (_ : va_P G gcl (wM am ty (up τ 9 g1) ρ ++ cs) H) (_ : va_D A (wM am ty (up τ 9 g1) ρ ++ cs)) (_ : va_S A s.heap H locs) (ls : Array Slot), lv_has ls 2 [(1, .int (ii p1)), (0, .ref (am 0))] → W p l e (rm4 0 0 0 0) s m args below meth c H locs 0 0 Q (F0 m 2 ls []) := by
    intro n
    induction n with
    | zero =>
      intro p1 g1 hp0 hp1 hgp hm
      exact absurd hm (Nat.not_lt_zero _)
    | succ n ih =>
      intro p1 g1 hp0 hp1 hgp hm H locs hP hD hS ls hl
      refine lv_iload_n hx hb dX12_keepState_2 rfl (lv_at hl 0 rfl) ?_
      refine lv_aload_n hx hb dX12_keepState_3 rfl (lv_at hl 1 rfl) ?_
      refine va_get (D := G) (ci := 11) (v := .int (ii (τ 5 0))) (C := RX12) (T := TX12) (N := 52) hx hb hts in_X12 hown hK hP 0 (aM_0 _ _ _ _ _) rfl 5 (by decide) (hts _ q1270) (fun _ h9 => h9) rfl dX12_keepState_4 ?_
      refine li_icmp_ge (tgt := 28) hx hb ⟨by omega, by omega⟩ ⟨by omega, by omega⟩ dX12_keepState_7 (by decide) (fun c7 => ?_) (fun c7 => ?_)
      · exact X2 p1 g1 (fun i a b => hgp i a (by omega)) H locs hP hD hS ls (lv_sub hl [1] rfl)
      · refine lv_aload_n hx hb dX12_keepState_10 rfl (lv_at hl 1 rfl) ?_
        refine va_get (D := G) (ci := 11) (v := .ref (am 7)) (C := RX12) (T := TX12) (N := 52) hx hb hts in_X12 hown hK hP 0 (aM_0 _ _ _ _ _) rfl 9 (by decide) (hts _ q1274) (fun _ h9 => h9) rfl dX12_keepState_11 ?_
        refine lv_iload_n hx hb dX12_keepState_14 rfl (lv_at hl 0 rfl) ?_
        refine lv_aload_n hx hb dX12_keepState_15 rfl (lv_at hl 1 rfl) ?_
        refine va_get (D := G) (ci := 11) (v := .ref (am 16)) (C := RX12) (T := TX12) (N := 52) hx hb hts in_X12 hown hK hP 0 (aM_0 _ _ _ _ _) rfl 27 (by decide) (hts _ q1292) (fun _ h9 => h9) rfl dX12_keepState_16 ?_
        refine lv_iload_n hx hb dX12_keepState_19 rfl (lv_at hl 0 rfl) ?_
        refine li_iald (g := (ρ 27)) hx hb hK hP 16 0 (aM_16 _ _ _ _ _) rfl (by omega) (by omega) (by decide) dX12_keepState_20 ?_
        have r21 := hs0 p1
        refine li_iast (g := g1) (W2 := wM am ty (up τ 9 (ug g1 p1 (ρ 27 p1))) ρ ++ cs) hx hb hK hP hD hS 7 0 (aM_7 _ _ _ _ _) rfl (by omega) (by omega) (by decide) rfl dX12_keepState_21 (fun H locs hP hD hS => ?_)
        refine li_iinc (a := p1) (lv' := [(1, .int (ii (p1 + 1))), (0, .ref (am 0))]) hx hb dX12_keepState_22 hl (k := 0) rfl (by decide) rfl (fun ls hl => ?_)
        refine lv_goto (tgt := 2) hx hb dX12_keepState_25 (by decide) ?_
        exact ih (p1 + 1) (ug g1 p1 (ρ 27 p1)) (by omega) (by omega) (cpy_s hgp) (by omega) H locs hP hD hS ls (lv_sub hl [0, 1] rfl)
  exact L2 _ 0 (τ 9) (by omega) (by omega) (fun i a b => by omega) (Nat.lt_succ_self _) H locs hP hD hS ls (lv_sub hl [0, 1] rfl)
set_option maxHeartbeats 4000000 in
theorem m_findMovesM (l : Launch) (G : va_G) (am : Nat → Nat) (ty : Nat → ClassId) (τ ρ : mem) (cs : va_W)  (F : mem) (hF : okF F) (hSm : Sim F τ) : cM l yX12_findMoves (ws_ yX12_findMoves cX12_findMoves 5 none) (rm4 0 0 0 0) G ty (wM am ty τ ρ ++ cs) [.ref (am 0)] 0 0 (fun r W' => ∃ (gm : Int → Int) (nm : Int), r = none ∧ W' = wM am ty τ (up (up ρ 29 gm) 30 (sc (nm))) ++ cs ∧ (LL (cand F) gm nm 70000) ∧ (0 ≤ nm ∧ nm ≤ 2400)) := by
  refine cM.of (by decide) (Nat.le_of_ble_eq_true rfl) ?_
  intro p e s m args below meth c A Q H locs hQ hx hb hr hml hown hlk hname hts hK hP hD hS hA hX ls hl
  have hl : lv_has ls 5 [(0, .ref (am 0))] := hl
  obtain ⟨hW, hWS, hlg⟩ := id hF
  obtain ⟨hw0, hw1, hw2, hw3, hw4, hw5, h8a, h8b, h9a, h9b, h10a, h10b⟩ := id hW
  obtain ⟨mL, mP, mR, mC, mK, mM, mA, mB, mD⟩ := id hSm
  have hp2 := p2_b3 h9a h9b
  have hR2 := h10b
  have hL5 := h8b
  refine lv_aload_n hx hb dX12_findMoves_0 rfl (lv_at hl 0 rfl) ?_
  refine li_iconst hx hb dX12_findMoves_1 ?_
  refine va_put (D := G) (ci := 11) (v := .int (ii 0)) (ty := .int) (C := RX12) (T := TX12) (N := 52) hx hb hts in_X12 tyX12 tyX12_ok nmX12 hown hK hP hD hS 0 (aM_0 _ _ _ _ _) rfl 30 (by decide) (hts _ q1295) (fun _ h9 => h9) rfl (tyX12_ok 30 (by decide)) rfl rfl (Nat.le_of_ble_eq_true rfl) dX12_findMoves_2 (fun H locs hP hD hS => ?_)
  have hP : va_P G gcl (wM am ty τ (up ρ 30 (sc (0))) ++ cs) H := hP
  have hD : va_D A (wM am ty τ (up ρ 30 (sc (0))) ++ cs) := hD
  refine li_iconst hx hb dX12_findMoves_5 ?_
  refine lv_istore_n (lv' := [(1, .int (ii 1)), (0, .ref (am 0))]) hx hb dX12_findMoves_6 rfl hl (by decide) rfl (fun ls hl => ?_)
  have L7 : ∀ (n : Nat) (kd : Int) (ga : Int → Int) (na : Int) (_ : 1 ≤ kd) (_ : kd ≤ 7) (_ : LL (cand F) ga na (10000 * kd)) (_ : 0 ≤ na ∧ na ≤ 400 * (kd - 1)) (_ : (7 - kd).toNat < n) (H : Heap) (locs : List Loc) (_ : va_P G gcl (wM am ty τ (up (up ρ 29 ga) 30 (sc (na))) ++ cs) H) (_ : va_D A (wM am ty τ (up (up ρ 29 ga) 30 (sc (na))) ++ cs)) (_ : va_S A s.heap H locs) (ls : Array Slot), lv_has ls 5 [(1, .int (ii kd)), (0, .ref (am 0))] → W p l e (rm4 0 0 0 0) s m args below meth c H locs 0 0 Q (F0 m 7 ls []) := by
    intro n
    induction n with
    | zero =>
      intro kd ga na hkd0 hkd7 hL hna hm
      exact absurd hm (Nat.not_lt_zero _)
    | succ n ih =>
      intro kd ga na hkd0 hkd7 hL hna hm H locs hP hD hS ls hl
      refine lv_iload_n hx hb dX12_findMoves_7 rfl (lv_at hl 0 rfl) ?_
      refine li_bipush hx hb dX12_findMoves_8 (by decide) ?_
      refine li_icmp_ge (tgt := 184) hx hb ⟨by omega, by omega⟩ ⟨by decide, by decide⟩ dX12_findMoves_10 (by decide) (fun c10 => ?_) (fun c10 => ?_)
      · exact eMv hQ hx hb hr hlk hP hD hS (Nat.le_of_ble_eq_true rfl) (Nat.le_of_ble_eq_true rfl) dX12_findMoves_184 (⟨ga, na, rfl, rfl, by rw [show (70000 : Int) = 10000 * kd by omega]; exact hL, by omega⟩)
      · refine lv_iload_n hx hb dX12_findMoves_13 rfl (lv_at hl 0 rfl) ?_
        refine li_bipush hx hb dX12_findMoves_14 (by decide) ?_
        have J16 : ∀ (y16_0 : Int) (_ : (kd = 6 ∧ y16_0 = 0) ∨ (¬ kd = 6 ∧ y16_0 = 1)) (H : Heap) (locs : List Loc) (_ : va_P G gcl (wM am ty τ (up (up ρ 29 ga) 30 (sc (na))) ++ cs) H) (_ : va_D A (wM am ty τ (up (up ρ 29 ga) 30 (sc (na))) ++ cs)) (_ : va_S A s.heap H locs) (ls : Array Slot), lv_has ls 5 [(1, .int (ii kd)), (0, .ref (am 0))] → W p l e (rm4 0 0 0 0) s m args below meth c H locs 0 0 Q (F0 m 24 ls [.int (ii y16_0)]) := by
          intro y16_0 hj16 H locs hP hD hS ls hl
          refine lv_istore_n (lv' := [(2, .int (ii y16_0)), (1, .int (ii kd)), (0, .ref (am 0))]) hx hb dX12_findMoves_24 rfl hl (by decide) rfl (fun ls hl => ?_)
          have X25 : ∀ (s1 : Int) (gb : Int → Int) (nb : Int) (_ : LL (cand F) gb nb (10000 * (kd + 1))) (_ : 0 ≤ nb ∧ nb ≤ 400 * (kd + 1 - 1)) (H : Heap) (locs : List Loc) (_ : va_P G gcl (wM am ty τ (up (up ρ 29 gb) 30 (sc (nb))) ++ cs) H) (_ : va_D A (wM am ty τ (up (up ρ 29 gb) 30 (sc (nb))) ++ cs)) (_ : va_S A s.heap H locs) (ls : Array Slot), lv_has ls 5 [(1, .int (ii kd)), (0, .ref (am 0))] → W p l e (rm4 0 0 0 0) s m args below meth c H locs 0 0 Q (F0 m 178 ls []) := by
            intro s1 gb nb hL hna H locs hP hD hS ls hl
            refine li_iinc (a := kd) (lv' := [(1, .int (ii (kd + 1))), (0, .ref (am 0))]) hx hb dX12_findMoves_178 hl (k := 0) rfl (by decide) rfl (fun ls hl => ?_)
            refine lv_goto (tgt := 7) hx hb dX12_findMoves_181 (by decide) ?_
            exact ih (kd + 1) gb nb (by omega) (by omega) (hL) (hna) (by omega) H locs hP hD hS ls (lv_sub hl [0, 1] rfl)
          have L25 : ∀ (n : Nat) (s1 : Int) (gb : Int → Int) (nb : Int) (_ : 0 ≤ s1) (_ : s1 ≤ 8) (_ : kd = 6 ∨ 1 ≤ s1) (_ : LL (cand F) gb nb (10000 * kd + 1000 * s1)) (_ : 0 ≤ nb ∧ nb ≤ 400 * (kd - 1) + 50 * s1) (_ : (8 - s1).toNat < n) (H : Heap) (locs : List Loc) (_ : va_P G gcl (wM am ty τ (up (up ρ 29 gb) 30 (sc (nb))) ++ cs) H) (_ : va_D A (wM am ty τ (up (up ρ 29 gb) 30 (sc (nb))) ++ cs)) (_ : va_S A s.heap H locs) (ls : Array Slot), lv_has ls 5 [(2, .int (ii s1)), (1, .int (ii kd)), (0, .ref (am 0))] → W p l e (rm4 0 0 0 0) s m args below meth c H locs 0 0 Q (F0 m 25 ls []) := by
            intro n
            induction n with
            | zero =>
              intro s1 gb nb hs0 hs8 hsk hL hna hm
              exact absurd hm (Nat.not_lt_zero _)
            | succ n ih =>
              intro s1 gb nb hs0 hs8 hsk hL hna hm H locs hP hD hS ls hl
              refine lv_iload_n hx hb dX12_findMoves_25 rfl (lv_at hl 0 rfl) ?_
              refine lv_iload_n hx hb dX12_findMoves_26 rfl (lv_at hl 1 rfl) ?_
              refine li_bipush hx hb dX12_findMoves_27 (by decide) ?_
              have J29 : ∀ (y29_0 : Int) (_ : (kd = 6 ∧ y29_0 = 1) ∨ (¬ kd = 6 ∧ y29_0 = p2 (F 9 0))) (H : Heap) (locs : List Loc) (_ : va_P G gcl (wM am ty τ (up (up ρ 29 gb) 30 (sc (nb))) ++ cs) H) (_ : va_D A (wM am ty τ (up (up ρ 29 gb) 30 (sc (nb))) ++ cs)) (_ : va_S A s.heap H locs) (ls : Array Slot), lv_has ls 5 [(2, .int (ii s1)), (1, .int (ii kd)), (0, .ref (am 0))] → W p l e (rm4 0 0 0 0) s m args below meth c H locs 0 0 Q (F0 m 42 ls [.int (ii y29_0), .int (ii s1)]) := by
                intro y29_0 hj29 H locs hP hD hS ls hl
                refine li_icmp_ge (tgt := 178) hx hb ⟨by omega, by omega⟩ ⟨by omega, by omega⟩ dX12_findMoves_42 (by decide) (fun c42 => ?_) (fun c42 => ?_)
                · exact X25 s1 gb nb (LL_skip hL (by omega) (by omega) (fun m a b q => cand_set q (k := kd) (s := s1) (by omega) (by omega) (by omega))) (by omega) H locs hP hD hS ls (lv_sub hl [1, 2] rfl)
                · have hset : (kd = 6 ∧ s1 = 0) ∨ (¬ kd = 6 ∧ 1 ≤ s1 ∧ s1 < p2 (F 9 0)) := by omega
                  refine li_iconst hx hb dX12_findMoves_45 ?_
                  refine lv_istore_n (lv' := [(3, .int (ii 0)), (2, .int (ii s1)), (1, .int (ii kd)), (0, .ref (am 0))]) hx hb dX12_findMoves_46 rfl hl (by decide) rfl (fun ls hl => ?_)
                  have X47 : ∀ (r1 : Int) (gc : Int → Int) (nc : Int) (_ : LL (cand F) gc nc (10000 * kd + 1000 * (s1 + 1))) (_ : 0 ≤ nc ∧ nc ≤ 400 * (kd - 1) + 50 * (s1 + 1)) (H : Heap) (locs : List Loc) (_ : va_P G gcl (wM am ty τ (up (up ρ 29 gc) 30 (sc (nc))) ++ cs) H) (_ : va_D A (wM am ty τ (up (up ρ 29 gc) 30 (sc (nc))) ++ cs)) (_ : va_S A s.heap H locs) (ls : Array Slot), lv_has ls 5 [(2, .int (ii s1)), (1, .int (ii kd)), (0, .ref (am 0))] → W p l e (rm4 0 0 0 0) s m args below meth c H locs 0 0 Q (F0 m 172 ls []) := by
                    intro r1 gc nc hL hna H locs hP hD hS ls hl
                    refine li_iinc (a := s1) (lv' := [(2, .int (ii (s1 + 1))), (1, .int (ii kd)), (0, .ref (am 0))]) hx hb dX12_findMoves_172 hl (k := 0) rfl (by decide) rfl (fun ls hl => ?_)
                    refine lv_goto (tgt := 25) hx hb dX12_findMoves_175 (by decide) ?_
                    exact ih (s1 + 1) gc nc (by omega) (by omega) (by omega) (hL) (hna) (by omega) H locs hP hD hS ls (lv_sub hl [0, 1, 2] rfl)
                  have L47 : ∀ (n : Nat) (r1 : Int) (gc : Int → Int) (nc : Int) (_ : 0 ≤ r1) (_ : r1 ≤ 2) (_ : LL (cand F) gc nc (10000 * kd + 1000 * s1 + 100 * r1)) (_ : 0 ≤ nc ∧ nc ≤ 400 * (kd - 1) + 50 * s1 + 25 * r1) (_ : (2 - r1).toNat < n) (H : Heap) (locs : List Loc) (_ : va_P G gcl (wM am ty τ (up (up ρ 29 gc) 30 (sc (nc))) ++ cs) H) (_ : va_D A (wM am ty τ (up (up ρ 29 gc) 30 (sc (nc))) ++ cs)) (_ : va_S A s.heap H locs) (ls : Array Slot), lv_has ls 5 [(3, .int (ii r1)), (2, .int (ii s1)), (1, .int (ii kd)), (0, .ref (am 0))] → W p l e (rm4 0 0 0 0) s m args below meth c H locs 0 0 Q (F0 m 47 ls []) := by
                    intro n
                    induction n with
                    | zero =>
                      intro r1 gc nc hr0 hr1 hL hna hm
                      exact absurd hm (Nat.not_lt_zero _)
                    | succ n ih =>
                      intro r1 gc nc hr0 hr1 hL hna hm H locs hP hD hS ls hl
                      refine lv_iload_n hx hb dX12_findMoves_47 rfl (lv_at hl 0 rfl) ?_
                      refine lv_iload_n hx hb dX12_findMoves_48 rfl (lv_at hl 2 rfl) ?_
                      refine li_iconst hx hb dX12_findMoves_49 ?_
                      have J50 : ∀ (y50_0 : Int) (_ : ((kd = 3 ∨ kd = 5) ∧ y50_0 = 1) ∨ (¬ (kd = 3 ∨ kd = 5) ∧ y50_0 = F 10 0)) (H : Heap) (locs : List Loc) (_ : va_P G gcl (wM am ty τ (up (up ρ 29 gc) 30 (sc (nc))) ++ cs) H) (_ : va_D A (wM am ty τ (up (up ρ 29 gc) 30 (sc (nc))) ++ cs)) (_ : va_S A s.heap H locs) (ls : Array Slot), lv_has ls 5 [(3, .int (ii r1)), (2, .int (ii s1)), (1, .int (ii kd)), (0, .ref (am 0))] → W p l e (rm4 0 0 0 0) s m args below meth c H locs 0 0 Q (F0 m 66 ls [.int (ii y50_0), .int (ii r1)]) := by
                        intro y50_0 hj50 H locs hP hD hS ls hl
                        refine li_icmp_ge (tgt := 172) hx hb ⟨by omega, by omega⟩ ⟨by omega, by omega⟩ dX12_findMoves_66 (by decide) (fun c66 => ?_) (fun c66 => ?_)
                        · exact X47 r1 gc nc (LL_skip hL (by omega) (by omega) (fun m a b q => cand_rope q (k := kd) (r := r1) (by omega) (by omega) (by omega))) (by omega) H locs hP hD hS ls (lv_sub hl [1, 2, 3] rfl)
                        · have hrop : ((kd = 3 ∨ kd = 5) ∧ r1 < 1) ∨ (¬ (kd = 3 ∨ kd = 5) ∧ r1 < F 10 0) := by omega
                          have hr2 : r1 ≤ 1 := by omega
                          refine li_iconst hx hb dX12_findMoves_69 ?_
                          refine lv_istore (lv' := [(4, .int (ii 0)), (3, .int (ii r1)), (2, .int (ii s1)), (1, .int (ii kd)), (0, .ref (am 0))]) hx hb dX12_findMoves_70 hl (by decide) rfl (fun ls hl => ?_)
                          have X72 : ∀ (k1 : Int) (gd : Int → Int) (nd : Int) (_ : LL (cand F) gd nd (10000 * kd + 1000 * s1 + 100 * (r1 + 1))) (_ : 0 ≤ nd ∧ nd ≤ 400 * (kd - 1) + 50 * s1 + 25 * (r1 + 1)) (H : Heap) (locs : List Loc) (_ : va_P G gcl (wM am ty τ (up (up ρ 29 gd) 30 (sc (nd))) ++ cs) H) (_ : va_D A (wM am ty τ (up (up ρ 29 gd) 30 (sc (nd))) ++ cs)) (_ : va_S A s.heap H locs) (ls : Array Slot), lv_has ls 5 [(3, .int (ii r1)), (2, .int (ii s1)), (1, .int (ii kd)), (0, .ref (am 0))] → W p l e (rm4 0 0 0 0) s m args below meth c H locs 0 0 Q (F0 m 166 ls []) := by
                            intro k1 gd nd hL hna H locs hP hD hS ls hl
                            refine li_iinc (a := r1) (lv' := [(3, .int (ii (r1 + 1))), (2, .int (ii s1)), (1, .int (ii kd)), (0, .ref (am 0))]) hx hb dX12_findMoves_166 hl (k := 0) rfl (by decide) rfl (fun ls hl => ?_)
                            refine lv_goto (tgt := 47) hx hb dX12_findMoves_169 (by decide) ?_
                            exact ih (r1 + 1) gd nd (by omega) (by omega) (hL) (hna) (by omega) H locs hP hD hS ls (lv_sub hl [0, 1, 2, 3] rfl)
                          have L72 : ∀ (n : Nat) (k1 : Int) (gd : Int → Int) (nd : Int) (_ : 0 ≤ k1) (_ : k1 ≤ 25) (_ : LL (cand F) gd nd (10000 * kd + 1000 * s1 + 100 * r1 + 10 * (k1 / 5) + k1 % 5)) (_ : 0 ≤ nd ∧ nd ≤ 400 * (kd - 1) + 50 * s1 + 25 * r1 + k1) (_ : (25 - k1).toNat < n) (H : Heap) (locs : List Loc) (_ : va_P G gcl (wM am ty τ (up (up ρ 29 gd) 30 (sc (nd))) ++ cs) H) (_ : va_D A (wM am ty τ (up (up ρ 29 gd) 30 (sc (nd))) ++ cs)) (_ : va_S A s.heap H locs) (ls : Array Slot), lv_has ls 5 [(4, .int (ii k1)), (3, .int (ii r1)), (2, .int (ii s1)), (1, .int (ii kd)), (0, .ref (am 0))] → W p l e (rm4 0 0 0 0) s m args below meth c H locs 0 0 Q (F0 m 72 ls []) := by
                            intro n
                            induction n with
                            | zero =>
                              intro k1 gd nd hk0 hk25 hL hna hm
                              exact absurd hm (Nat.not_lt_zero _)
                            | succ n ih =>
                              intro k1 gd nd hk0 hk25 hL hna hm H locs hP hD hS ls hl
                              refine lv_iload hx hb dX12_findMoves_72 (lv_at hl 0 rfl) ?_
                              refine li_bipush hx hb dX12_findMoves_74 (by decide) ?_
                              refine li_icmp_ge (tgt := 166) hx hb ⟨by omega, by omega⟩ ⟨by decide, by decide⟩ dX12_findMoves_76 (by decide) (fun c76 => ?_) (fun c76 => ?_)
                              · exact X72 k1 gd nd (LL_skip hL (by omega) (by omega) (fun m a b q => cand_fr q (by omega))) (by omega) H locs hP hD hS ls (lv_sub hl [1, 2, 3, 4] rfl)
                              · refine lv_iload hx hb dX12_findMoves_79 (lv_at hl 0 rfl) ?_
                                refine li_iconst hx hb dX12_findMoves_81 ?_
                                refine li_div hx hb (by omega) (by omega) (by omega) (by omega) dX12_findMoves_82 ?_
                                refine lv_aload_n hx hb dX12_findMoves_83 rfl (lv_at hl 4 rfl) ?_
                                refine va_get (D := G) (ci := 11) (v := .int (ii (τ 0 0))) (C := RX12) (T := TX12) (N := 52) hx hb hts in_X12 hown hK hP 0 (aM_0 _ _ _ _ _) rfl 0 (by decide) (hts _ q1265) (fun _ h9 => h9) rfl dX12_findMoves_84 ?_
                                refine li_icmp_ge (tgt := 160) hx hb ⟨by omega, by omega⟩ ⟨by omega, by omega⟩ dX12_findMoves_87 (by decide) (fun c87 => ?_) (fun c87 => ?_)
                                · refine li_iinc (a := k1) (lv' := [(4, .int (ii (k1 + 1))), (3, .int (ii r1)), (2, .int (ii s1)), (1, .int (ii kd)), (0, .ref (am 0))]) hx hb dX12_findMoves_160 hl (k := 0) rfl (by decide) rfl (fun ls hl => ?_)
                                  refine lv_goto (tgt := 72) hx hb dX12_findMoves_163 (by decide) ?_
                                  exact ih (k1 + 1) gd nd (by omega) (by omega) (LL_no hL hk0 c76 hkd0 hs0 (by omega) hr0 hr2 (by omega)) (by omega) (by omega) H locs hP hD hS ls (lv_sub hl [0, 1, 2, 3, 4] rfl)
                                · refine lv_iload hx hb dX12_findMoves_90 (lv_at hl 0 rfl) ?_
                                  refine li_iconst hx hb dX12_findMoves_92 ?_
                                  refine li_rem hx hb (by omega) (by omega) (by omega) (by omega) dX12_findMoves_93 ?_
                                  refine lv_aload_n hx hb dX12_findMoves_94 rfl (lv_at hl 4 rfl) ?_
                                  refine va_get (D := G) (ci := 11) (v := .int (ii (τ 0 0))) (C := RX12) (T := TX12) (N := 52) hx hb hts in_X12 hown hK hP 0 (aM_0 _ _ _ _ _) rfl 0 (by decide) (hts _ q1265) (fun _ h9 => h9) rfl dX12_findMoves_95 ?_
                                  refine li_icmp_ge (tgt := 160) hx hb ⟨by omega, by omega⟩ ⟨by omega, by omega⟩ dX12_findMoves_98 (by decide) (fun c98 => ?_) (fun c98 => ?_)
                                  · refine li_iinc (a := k1) (lv' := [(4, .int (ii (k1 + 1))), (3, .int (ii r1)), (2, .int (ii s1)), (1, .int (ii kd)), (0, .ref (am 0))]) hx hb dX12_findMoves_160 hl (k := 0) rfl (by decide) rfl (fun ls hl => ?_)
                                    refine lv_goto (tgt := 72) hx hb dX12_findMoves_163 (by decide) ?_
                                    exact ih (k1 + 1) gd nd (by omega) (by omega) (LL_no hL hk0 c76 hkd0 hs0 (by omega) hr0 hr2 (by omega)) (by omega) (by omega) H locs hP hD hS ls (lv_sub hl [0, 1, 2, 3, 4] rfl)
                                  · refine lv_iload hx hb dX12_findMoves_101 (lv_at hl 0 rfl) ?_
                                    refine li_iconst hx hb dX12_findMoves_103 ?_
                                    refine li_div hx hb (by omega) (by omega) (by omega) (by omega) dX12_findMoves_104 ?_
                                    refine lv_iload hx hb dX12_findMoves_105 (lv_at hl 0 rfl) ?_
                                    refine li_iconst hx hb dX12_findMoves_107 ?_
                                    refine li_rem hx hb (by omega) (by omega) (by omega) (by omega) dX12_findMoves_108 ?_
                                    refine li_icmp_eq (tgt := 160) hx hb ⟨by omega, by omega⟩ ⟨by omega, by omega⟩ dX12_findMoves_109 (by decide) (fun c109 => ?_) (fun c109 => ?_)
                                    · refine li_iinc (a := k1) (lv' := [(4, .int (ii (k1 + 1))), (3, .int (ii r1)), (2, .int (ii s1)), (1, .int (ii kd)), (0, .ref (am 0))]) hx hb dX12_findMoves_160 hl (k := 0) rfl (by decide) rfl (fun ls hl => ?_)
                                      refine lv_goto (tgt := 72) hx hb dX12_findMoves_163 (by decide) ?_
                                      exact ih (k1 + 1) gd nd (by omega) (by omega) (LL_no hL hk0 c76 hkd0 hs0 (by omega) hr0 hr2 (by omega)) (by omega) (by omega) H locs hP hD hS ls (lv_sub hl [0, 1, 2, 3, 4] rfl)
                                    · refine lv_aload_n hx hb dX12_findMoves_112 rfl (lv_at hl 4 rfl) ?_
                                      refine va_get (D := G) (ci := 11) (v := .ref (am 18)) (C := RX12) (T := TX12) (N := 52) hx hb hts in_X12 hown hK hP 0 (aM_0 _ _ _ _ _) rfl 29 (by decide) (hts _ q1294) (fun _ h9 => h9) rfl dX12_findMoves_113 ?_
                                      refine lv_aload_n hx hb dX12_findMoves_116 rfl (lv_at hl 4 rfl) ?_
                                      refine va_get (D := G) (ci := 11) (v := .int (ii nd)) (C := RX12) (T := TX12) (N := 52) hx hb hts in_X12 hown hK hP 0 (aM_0 _ _ _ _ _) rfl 30 (by decide) (hts _ q1295) (fun _ h9 => h9) rfl dX12_findMoves_117 ?_
                                      refine li_sipush hx hb dX12_findMoves_120 (by decide) ?_
                                      refine lv_iload_n hx hb dX12_findMoves_123 rfl (lv_at hl 3 rfl) ?_
                                      refine li_mul hx hb dX12_findMoves_124 ?_
                                      refine li_sipush hx hb dX12_findMoves_125 (by decide) ?_
                                      refine lv_iload_n hx hb dX12_findMoves_128 rfl (lv_at hl 2 rfl) ?_
                                      refine li_mul hx hb dX12_findMoves_129 ?_
                                      refine li_add hx hb dX12_findMoves_130 ?_
                                      refine li_bipush hx hb dX12_findMoves_131 (by decide) ?_
                                      refine lv_iload_n hx hb dX12_findMoves_133 rfl (lv_at hl 1 rfl) ?_
                                      refine li_mul hx hb dX12_findMoves_134 ?_
                                      refine li_add hx hb dX12_findMoves_135 ?_
                                      refine li_bipush hx hb dX12_findMoves_136 (by decide) ?_
                                      refine lv_iload hx hb dX12_findMoves_138 (lv_at hl 0 rfl) ?_
                                      refine li_iconst hx hb dX12_findMoves_140 ?_
                                      refine li_div hx hb (by omega) (by omega) (by omega) (by omega) dX12_findMoves_141 ?_
                                      refine li_mul hx hb dX12_findMoves_142 ?_
                                      refine li_add hx hb dX12_findMoves_143 ?_
                                      refine lv_iload hx hb dX12_findMoves_144 (lv_at hl 0 rfl) ?_
                                      refine li_iconst hx hb dX12_findMoves_146 ?_
                                      refine li_rem hx hb (by omega) (by omega) (by omega) (by omega) dX12_findMoves_147 ?_
                                      refine li_add hx hb dX12_findMoves_148 ?_
                                      refine li_iast (g := gd) (W2 := wM am ty τ (up (up ρ 30 (sc (nd))) 29 (ug gd nd (10000 * kd + (1000 * s1) + (100 * r1) + (10 * (k1 / 5)) + (k1 % 5)))) ++ cs) hx hb hK hP hD hS 18 0 (aM_18 _ _ _ _ _) rfl (by omega) (by omega) (by decide) rfl dX12_findMoves_149 (fun H locs hP hD hS => ?_)
                                      refine lv_aload_n hx hb dX12_findMoves_150 rfl (lv_at hl 4 rfl) ?_
                                      refine lv_dup hx hb dX12_findMoves_151 rfl ?_
                                      refine va_get (D := G) (ci := 11) (v := .int (ii nd)) (C := RX12) (T := TX12) (N := 52) hx hb hts in_X12 hown hK hP 0 (aM_0 _ _ _ _ _) rfl 30 (by decide) (hts _ q1295) (fun _ h9 => h9) rfl dX12_findMoves_152 ?_
                                      refine li_iconst hx hb dX12_findMoves_155 ?_
                                      refine li_add hx hb dX12_findMoves_156 ?_
                                      refine va_put (D := G) (ci := 11) (v := .int (ii (nd + 1))) (ty := .int) (C := RX12) (T := TX12) (N := 52) hx hb hts in_X12 tyX12 tyX12_ok nmX12 hown hK hP hD hS 0 (aM_0 _ _ _ _ _) rfl 30 (by decide) (hts _ q1295) (fun _ h9 => h9) rfl (tyX12_ok 30 (by decide)) rfl rfl (Nat.le_of_ble_eq_true rfl) dX12_findMoves_157 (fun H locs hP hD hS => ?_)
                                      have hP : va_P G gcl (wM am ty τ (up (up ρ 29 (ug gd nd (10000 * kd + (1000 * s1) + (100 * r1) + (10 * (k1 / 5)) + (k1 % 5)))) 30 (sc (nd + 1))) ++ cs) H := hP
                                      have hD : va_D A (wM am ty τ (up (up ρ 29 (ug gd nd (10000 * kd + (1000 * s1) + (100 * r1) + (10 * (k1 / 5)) + (k1 % 5)))) 30 (sc (nd + 1))) ++ cs) := hD
                                      refine li_iinc (a := k1) (lv' := [(4, .int (ii (k1 + 1))), (3, .int (ii r1)), (2, .int (ii s1)), (1, .int (ii kd)), (0, .ref (am 0))]) hx hb dX12_findMoves_160 hl (k := 0) rfl (by decide) rfl (fun ls hl => ?_)
                                      refine lv_goto (tgt := 72) hx hb dX12_findMoves_163 (by decide) ?_
                                      exact ih (k1 + 1) (ug gd nd (10000 * kd + (1000 * s1) + (100 * r1) + (10 * (k1 / 5)) + (k1 % 5))) (nd + 1) (by omega) (by omega) (LL_yes hL hk0 c76 hkd0 (by omega) hs0 (by omega) hr0 hr2 hset hrop ⟨by omega, by omega, by omega⟩) (by omega) (by omega) H locs hP hD hS ls (lv_sub hl [0, 1, 2, 3, 4] rfl)
                          exact L72 _ 0 gc nc (by omega) (by omega) (by rw [show (10000 * kd + 1000 * s1 + 100 * r1 + 10 * (0 / 5) + 0 % 5) = 10000 * kd + 1000 * s1 + 100 * r1 by omega]; exact hL) (by omega) (Nat.lt_succ_self _) H locs hP hD hS ls (lv_sub hl [0, 1, 2, 3, 4] rfl)
                      refine li_icmp_eq (tgt := 58) hx hb ⟨by omega, by omega⟩ ⟨by decide, by decide⟩ dX12_findMoves_50 (by decide) (fun c50 => ?_) (fun c50 => ?_)
                      · refine li_iconst hx hb dX12_findMoves_58 ?_
                        refine lv_goto (tgt := 66) hx hb dX12_findMoves_59 (by decide) ?_
                        exact J50 _ (by omega) H locs hP hD hS ls (lv_sub hl [0, 1, 2, 3] rfl)
                      · refine lv_iload_n hx hb dX12_findMoves_53 rfl (lv_at hl 2 rfl) ?_
                        refine li_iconst hx hb dX12_findMoves_54 ?_
                        refine li_icmp_ne (tgt := 62) hx hb ⟨by omega, by omega⟩ ⟨by decide, by decide⟩ dX12_findMoves_55 (by decide) (fun c55 => ?_) (fun c55 => ?_)
                        · refine lv_aload_n hx hb dX12_findMoves_62 rfl (lv_at hl 3 rfl) ?_
                          refine va_get (D := G) (ci := 11) (v := .int (ii (τ 7 0))) (C := RX12) (T := TX12) (N := 52) hx hb hts in_X12 hown hK hP 0 (aM_0 _ _ _ _ _) rfl 7 (by decide) (hts _ q1272) (fun _ h9 => h9) rfl dX12_findMoves_63 ?_
                          exact J50 _ (by omega) H locs hP hD hS ls (lv_sub hl [0, 1, 2, 3] rfl)
                        · refine li_iconst hx hb dX12_findMoves_58 ?_
                          refine lv_goto (tgt := 66) hx hb dX12_findMoves_59 (by decide) ?_
                          exact J50 _ (by omega) H locs hP hD hS ls (lv_sub hl [0, 1, 2, 3] rfl)
                  exact L47 _ 0 gb nb (by omega) (by omega) (by rw [show 10000 * kd + 1000 * s1 + 100 * 0 = 10000 * kd + 1000 * s1 by omega]; exact hL) (by omega) (Nat.lt_succ_self _) H locs hP hD hS ls (lv_sub hl [0, 1, 2, 3] rfl)
              refine li_icmp_ne (tgt := 36) hx hb ⟨by omega, by omega⟩ ⟨by decide, by decide⟩ dX12_findMoves_29 (by decide) (fun c29 => ?_) (fun c29 => ?_)
              · refine li_iconst hx hb dX12_findMoves_36 ?_
                refine lv_aload_n hx hb dX12_findMoves_37 rfl (lv_at hl 2 rfl) ?_
                refine va_get (D := G) (ci := 11) (v := .int (ii (τ 5 0))) (C := RX12) (T := TX12) (N := 52) hx hb hts in_X12 hown hK hP 0 (aM_0 _ _ _ _ _) rfl 5 (by decide) (hts _ q1270) (fun _ h9 => h9) rfl dX12_findMoves_38 ?_
                refine lv_ishl hx hb dX12_findMoves_41 ?_
                refine li_topx (z := p2 (τ 5 0)) (ii_shl1 (by omega) (by omega)) ?_
                exact J29 _ (.inr ⟨by omega, by rw [mP]⟩) H locs hP hD hS ls (lv_sub hl [0, 1, 2] rfl)
              · refine li_iconst hx hb dX12_findMoves_32 ?_
                refine lv_goto (tgt := 42) hx hb dX12_findMoves_33 (by decide) ?_
                exact J29 _ (.inl ⟨by omega, rfl⟩) H locs hP hD hS ls (lv_sub hl [0, 1, 2] rfl)
          exact L25 _ y16_0 ga na (by omega) (by omega) (by omega) (LL_skip hL (by omega) (by omega) (fun m a b q => cand_set0 q (by omega) (by omega))) (by omega) (Nat.lt_succ_self _) H locs hP hD hS ls (lv_sub hl [0, 1, 2] rfl)
        refine li_icmp_ne (tgt := 23) hx hb ⟨by omega, by omega⟩ ⟨by decide, by decide⟩ dX12_findMoves_16 (by decide) (fun c16 => ?_) (fun c16 => ?_)
        · refine li_iconst hx hb dX12_findMoves_23 ?_
          exact J16 _ (by omega) H locs hP hD hS ls (lv_sub hl [0, 1] rfl)
        · refine li_iconst hx hb dX12_findMoves_19 ?_
          refine lv_goto (tgt := 24) hx hb dX12_findMoves_20 (by decide) ?_
          exact J16 _ (by omega) H locs hP hD hS ls (lv_sub hl [0, 1] rfl)
  exact L7 _ 1 (ρ 29) 0 (by omega) (by omega) (LL_skip (LL_0 _ _) (by decide) (by decide) (fun m a b q => by have := q.2.1; omega)) (⟨Int.le_refl 0, by decide⟩) (Nat.lt_succ_self _) H locs hP hD hS ls (lv_sub hl [0, 1] rfl)
