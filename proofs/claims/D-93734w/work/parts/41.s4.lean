/-! the shelves on the model's side (written by gen/s4.py) -/
set_option maxRecDepth 100000
theorem cpx_s {a b : Int → Int} {o k : Int} (h : ∀ x, 0 ≤ x → x < k → b x = a (o + x)) : ∀ x, 0 ≤ x → x < k + 1 → ug b k (a (o + k)) x = a (o + x) := fun x a0 b0 => by
  by_cases q : x = k
  · rw [q, ug_s]
  · rw [ug_n q]
    exact h x a0 (by omega)
set_option maxHeartbeats 4000000 in
theorem m_wrongRowM (l : Launch) (G : va_G) (am : Nat → Nat) (ty : Nat → ClassId) (τ ρ : mem) (cs : va_W) (d1 : Int)  (hd1 : rg d1) (hh : ∀ i, 0 ≤ (τ 46) i ∧ (τ 46) i ≤ 2) : cR l yX12_wrongRow (ws_ yX12_wrongRow cX12_wrongRow 2 (some .int)) (rm4 1 0 0 25) G ty (wM am ty τ ρ ++ cs) [.ref (am 0), .int (ii d1)] (fun r => r = some (.int (ii (wrR (τ 46) d1))) ∧ (-12 ≤ wrR (τ 46) d1 ∧ wrR (τ 46) d1 ≤ 0)) := by
  refine cR.of (by decide) (Nat.le_of_ble_eq_true rfl) ?_
  intro p e s m args below meth c Q hQ hx hb hr hml hown hlk hts hK hP hD hX ls hl
  have hl : lv_has ls 2 [(0, .ref (am 0)), (1, .int (ii d1))] := hl
  obtain ⟨hd1a, hd1b⟩ := id hd1
  refine lv_iload_n hx hb dX12_wrongRow_0 rfl (lv_at hl 1 rfl) ?_
  refine lv_i2l (v := ll d1) hx hb dX12_wrongRow_1 (ll_i hd1) ?_
  refine lv_lconst (v := ll 0) hx hb dX12_wrongRow_2 (by decide) ?_
  refine lv_ldc2 (v := ll 7) hx hb hown (hts _ q1435) dX12_wrongRow_3 ?_
  refine kR (va_runS (As := [.long (ll (d1)), .long (ll (0)), .long (ll (7))]) (rest := []) ⟨hx, hb, hml, hown, hts⟩ (m_inM l G ty (wM am ty τ ρ ++ cs) d1 0 7 (rg_rl hd1) ⟨by decide, by decide⟩ ⟨by decide, by decide⟩) (va_cwS 3 hts (lw_S q1436 q1437 q87 q1438) rfl rfl rfl (by decide +kernel) ⟨Nat.le_of_ble_eq_true rfl, Nat.le_of_ble_eq_true rfl⟩) (psR hK hP hD hX) rfl rfl hl.1 rfl (lv_room (Nat.le_of_ble_eq_true rfl)) dX12_wrongRow_6 ⟨Nat.le_of_ble_eq_true rfl, Nat.le_of_ble_eq_true rfl⟩) (fun v hv => ?_)
  obtain ⟨z6, rfl, ⟨rfl, h6⟩ | ⟨rfl, h6⟩⟩ := hv
  · refine li_if_ne (tgt := 16) hx hb ⟨by decide, by decide⟩ dX12_wrongRow_9 (by decide) (fun c9 => ?_) (fun c9 => ?_)
    · refine lv_aload_n hx hb dX12_wrongRow_16 rfl (lv_at hl 0 rfl) ?_
      refine va_get (D := G) (ci := 11) (v := .ref (am 28)) (C := RX12) (T := TX12) (N := 52) hx hb hts in_X12 hown hK hP 0 (aM_0 _ _ _ _ _) rfl 46 (by decide) (hts _ q1311) (fun _ h9 => h9) rfl dX12_wrongRow_17 ?_
      refine lv_iload_n hx hb dX12_wrongRow_20 rfl (lv_at hl 1 rfl) ?_
      refine li_iald (g := (τ 46)) hx hb hK hP 28 0 (aM_28 _ _ _ _ _) rfl (by omega) (by omega) (by decide) dX12_wrongRow_21 ?_
      have r22 := hh d1
      refine li_if_ne (tgt := 30) hx hb (rgi r22.1 r22.2) dX12_wrongRow_22 (by decide) (fun c22 => ?_) (fun c22 => ?_)
      · refine lv_aload_n hx hb dX12_wrongRow_30 rfl (lv_at hl 0 rfl) ?_
        refine va_get (D := G) (ci := 11) (v := .ref (am 28)) (C := RX12) (T := TX12) (N := 52) hx hb hts in_X12 hown hK hP 0 (aM_0 _ _ _ _ _) rfl 46 (by decide) (hts _ q1311) (fun _ h9 => h9) rfl dX12_wrongRow_31 ?_
        refine lv_iload_n hx hb dX12_wrongRow_34 rfl (lv_at hl 1 rfl) ?_
        refine li_iald (g := (τ 46)) hx hb hK hP 28 0 (aM_28 _ _ _ _ _) rfl (by omega) (by omega) (by decide) dX12_wrongRow_35 ?_
        have r36 := hh d1
        refine li_iconst hx hb dX12_wrongRow_36 ?_
        refine li_icmp_eq (tgt := 45) hx hb (rgi r36.1 r36.2) ⟨by decide, by decide⟩ dX12_wrongRow_37 (by decide) (fun c37 => ?_) (fun c37 => ?_)
        · refine li_iconst hx hb dX12_wrongRow_45 ?_
          exact eRi hQ hx hb hr hlk dX12_wrongRow_46 (⟨by exact congrArg (fun x => some (Value.int (ii x))) (show _ = wrR (τ 46) d1 by unfold wrR; omega), wrR_b _ _⟩)
        · refine li_bipush hx hb dX12_wrongRow_40 (by decide) ?_
          refine lv_goto (tgt := 46) hx hb dX12_wrongRow_42 (by decide) ?_
          exact eRi hQ hx hb hr hlk dX12_wrongRow_46 (⟨by exact congrArg (fun x => some (Value.int (ii x))) (show _ = wrR (τ 46) d1 by unfold wrR; omega), wrR_b _ _⟩)
      · refine li_bipush hx hb dX12_wrongRow_25 (by decide) ?_
        refine lv_goto (tgt := 46) hx hb dX12_wrongRow_27 (by decide) ?_
        exact eRi hQ hx hb hr hlk dX12_wrongRow_46 (⟨by exact congrArg (fun x => some (Value.int (ii x))) (show _ = wrR (τ 46) d1 by unfold wrR; omega), wrR_b _ _⟩)
    · exact absurd c9 (by decide)
  · refine li_if_ne (tgt := 16) hx hb ⟨by decide, by decide⟩ dX12_wrongRow_9 (by decide) (fun c9 => ?_) (fun c9 => ?_)
    · exact absurd c9 (by decide)
    · refine li_iconst hx hb dX12_wrongRow_12 ?_
      refine lv_goto (tgt := 46) hx hb dX12_wrongRow_13 (by decide) ?_
      exact eRi hQ hx hb hr hlk dX12_wrongRow_46 (⟨by exact congrArg (fun x => some (Value.int (ii x))) (show _ = wrR (τ 46) d1 by unfold wrR; omega), wrR_b _ _⟩)
set_option maxHeartbeats 4000000 in
theorem m_wrongShelfM (l : Launch) (G : va_G) (am : Nat → Nat) (ty : Nat → ClassId) (τ ρ : mem) (cs : va_W) (d1 : Int)  (hd1 : rg d1) (hh : ∀ i, 0 ≤ (τ 46) i ∧ (τ 46) i ≤ 2) : cR l yX12_wrongShelf (ws_ yX12_wrongShelf cX12_wrongShelf 2 (some .int)) (rm4 1 0 0 25) G ty (wM am ty τ ρ ++ cs) [.ref (am 0), .int (ii d1)] (fun r => r = some (.int (ii (wrS (τ 46) d1))) ∧ (-12 ≤ wrS (τ 46) d1 ∧ wrS (τ 46) d1 ≤ 0)) := by
  refine cR.of (by decide) (Nat.le_of_ble_eq_true rfl) ?_
  intro p e s m args below meth c Q hQ hx hb hr hml hown hlk hts hK hP hD hX ls hl
  have hl : lv_has ls 2 [(0, .ref (am 0)), (1, .int (ii d1))] := hl
  obtain ⟨hd1a, hd1b⟩ := id hd1
  refine lv_iload_n hx hb dX12_wrongShelf_0 rfl (lv_at hl 1 rfl) ?_
  refine lv_i2l (v := ll d1) hx hb dX12_wrongShelf_1 (ll_i hd1) ?_
  refine lv_lconst (v := ll 0) hx hb dX12_wrongShelf_2 (by decide) ?_
  refine lv_ldc2 (v := ll 7) hx hb hown (hts _ q1435) dX12_wrongShelf_3 ?_
  refine kR (va_runS (As := [.long (ll (d1)), .long (ll (0)), .long (ll (7))]) (rest := []) ⟨hx, hb, hml, hown, hts⟩ (m_inM l G ty (wM am ty τ ρ ++ cs) d1 0 7 (rg_rl hd1) ⟨by decide, by decide⟩ ⟨by decide, by decide⟩) (va_cwS 3 hts (lw_S q1436 q1437 q87 q1438) rfl rfl rfl (by decide +kernel) ⟨Nat.le_of_ble_eq_true rfl, Nat.le_of_ble_eq_true rfl⟩) (psR hK hP hD hX) rfl rfl hl.1 rfl (lv_room (Nat.le_of_ble_eq_true rfl)) dX12_wrongShelf_6 ⟨Nat.le_of_ble_eq_true rfl, Nat.le_of_ble_eq_true rfl⟩) (fun v hv => ?_)
  obtain ⟨z6, rfl, ⟨rfl, h6⟩ | ⟨rfl, h6⟩⟩ := hv
  · refine li_if_ne (tgt := 16) hx hb ⟨by decide, by decide⟩ dX12_wrongShelf_9 (by decide) (fun c9 => ?_) (fun c9 => ?_)
    · refine lv_aload_n hx hb dX12_wrongShelf_16 rfl (lv_at hl 0 rfl) ?_
      refine va_get (D := G) (ci := 11) (v := .ref (am 28)) (C := RX12) (T := TX12) (N := 52) hx hb hts in_X12 hown hK hP 0 (aM_0 _ _ _ _ _) rfl 46 (by decide) (hts _ q1311) (fun _ h9 => h9) rfl dX12_wrongShelf_17 ?_
      refine lv_iload_n hx hb dX12_wrongShelf_20 rfl (lv_at hl 1 rfl) ?_
      refine li_iald (g := (τ 46)) hx hb hK hP 28 0 (aM_28 _ _ _ _ _) rfl (by omega) (by omega) (by decide) dX12_wrongShelf_21 ?_
      have r22 := hh d1
      refine li_if_ne (tgt := 30) hx hb (rgi r22.1 r22.2) dX12_wrongShelf_22 (by decide) (fun c22 => ?_) (fun c22 => ?_)
      · refine lv_aload_n hx hb dX12_wrongShelf_30 rfl (lv_at hl 0 rfl) ?_
        refine va_get (D := G) (ci := 11) (v := .ref (am 28)) (C := RX12) (T := TX12) (N := 52) hx hb hts in_X12 hown hK hP 0 (aM_0 _ _ _ _ _) rfl 46 (by decide) (hts _ q1311) (fun _ h9 => h9) rfl dX12_wrongShelf_31 ?_
        refine lv_iload_n hx hb dX12_wrongShelf_34 rfl (lv_at hl 1 rfl) ?_
        refine li_iald (g := (τ 46)) hx hb hK hP 28 0 (aM_28 _ _ _ _ _) rfl (by omega) (by omega) (by decide) dX12_wrongShelf_35 ?_
        have r36 := hh d1
        refine li_iconst hx hb dX12_wrongShelf_36 ?_
        refine li_icmp_eq (tgt := 45) hx hb (rgi r36.1 r36.2) ⟨by decide, by decide⟩ dX12_wrongShelf_37 (by decide) (fun c37 => ?_) (fun c37 => ?_)
        · refine li_iconst hx hb dX12_wrongShelf_45 ?_
          exact eRi hQ hx hb hr hlk dX12_wrongShelf_46 (⟨by exact congrArg (fun x => some (Value.int (ii x))) (show _ = wrS (τ 46) d1 by unfold wrS; omega), wrS_b _ _⟩)
        · refine li_bipush hx hb dX12_wrongShelf_40 (by decide) ?_
          refine lv_goto (tgt := 46) hx hb dX12_wrongShelf_42 (by decide) ?_
          exact eRi hQ hx hb hr hlk dX12_wrongShelf_46 (⟨by exact congrArg (fun x => some (Value.int (ii x))) (show _ = wrS (τ 46) d1 by unfold wrS; omega), wrS_b _ _⟩)
      · refine li_bipush hx hb dX12_wrongShelf_25 (by decide) ?_
        refine lv_goto (tgt := 46) hx hb dX12_wrongShelf_27 (by decide) ?_
        exact eRi hQ hx hb hr hlk dX12_wrongShelf_46 (⟨by exact congrArg (fun x => some (Value.int (ii x))) (show _ = wrS (τ 46) d1 by unfold wrS; omega), wrS_b _ _⟩)
    · exact absurd c9 (by decide)
  · refine li_if_ne (tgt := 16) hx hb ⟨by decide, by decide⟩ dX12_wrongShelf_9 (by decide) (fun c9 => ?_) (fun c9 => ?_)
    · exact absurd c9 (by decide)
    · refine li_iconst hx hb dX12_wrongShelf_12 ?_
      refine lv_goto (tgt := 46) hx hb dX12_wrongShelf_13 (by decide) ?_
      exact eRi hQ hx hb hr hlk dX12_wrongShelf_46 (⟨by exact congrArg (fun x => some (Value.int (ii x))) (show _ = wrS (τ 46) d1 by unfold wrS; omega), wrS_b _ _⟩)
set_option maxHeartbeats 4000000 in
theorem m_wrongMovesM (l : Launch) (G : va_G) (am : Nat → Nat) (ty : Nat → ClassId) (τ ρ : mem) (cs : va_W) (d1 : Int)  (hd1 : rg d1) (hh : ∀ i, 0 ≤ (τ 46) i ∧ (τ 46) i ≤ 2) (hrs : ∀ i, 0 ≤ (τ 48) i ∧ (τ 48) i ≤ 2) : cR l yX12_wrongMoves (ws_ yX12_wrongMoves cX12_wrongMoves 2 (some .int)) (rm4 2 0 0 46) G ty (wM am ty τ ρ ++ cs) [.ref (am 0), .int (ii d1)] (fun r => r = some (.int (ii (wrM (τ 46) (τ 48) d1))) ∧ (-12 ≤ wrM (τ 46) (τ 48) d1 ∧ wrM (τ 46) (τ 48) d1 ≤ 0)) := by
  refine cR.of (by decide) (Nat.le_of_ble_eq_true rfl) ?_
  intro p e s m args below meth c Q hQ hx hb hr hml hown hlk hts hK hP hD hX ls hl
  have hl : lv_has ls 2 [(0, .ref (am 0)), (1, .int (ii d1))] := hl
  obtain ⟨hd1a, hd1b⟩ := id hd1
  refine lv_aload_n hx hb dX12_wrongMoves_0 rfl (lv_at hl 0 rfl) ?_
  refine lv_iload_n hx hb dX12_wrongMoves_1 rfl (lv_at hl 1 rfl) ?_
  refine kR (va_runV (As := [.int (ii d1)]) (rest := []) ⟨hx, hb, hml, hown, hts⟩ (m_wrongRowM l G am ty τ ρ cs d1 (show rg d1 from hd1) (show ∀ i, 0 ≤ (τ 46) i ∧ (τ 46) i ≤ 2 from hh)) (cwV 1 hts (lw_V q1431 q1433 qs37 q87 q1434) rfl rfl rfl (by decide +kernel) ⟨Nat.le_of_ble_eq_true rfl, Nat.le_of_ble_eq_true rfl⟩) (pvR (r := (RX12, TX12, 52)) hK hP hD hX 0 (aM_0 _ _ _ _ _) rfl) rfl rfl hl.1 rfl (lv_room (Nat.le_of_ble_eq_true rfl)) dX12_wrongMoves_2 ⟨Nat.le_of_ble_eq_true rfl, Nat.le_of_ble_eq_true rfl⟩) (fun v hv => ?_)
  obtain ⟨rfl, hz2⟩ := hv
  have hz2 : -12 ≤ wrR (τ 46) d1 ∧ wrR (τ 46) d1 ≤ 0 := hz2
  refine li_top (b := (wrR (τ 46) d1)) rfl ?_
  refine li_if_ge (tgt := 16) hx hb ⟨Int.le_trans (by decide) hz2.1, Int.le_trans hz2.2 (by decide)⟩ dX12_wrongMoves_5 (by decide) (fun c5 => ?_) (fun c5 => ?_)
  · have hw0 := wrR_0 c5
    refine lv_aload_n hx hb dX12_wrongMoves_16 rfl (lv_at hl 0 rfl) ?_
    refine va_get (D := G) (ci := 11) (v := .ref (am 30)) (C := RX12) (T := TX12) (N := 52) hx hb hts in_X12 hown hK hP 0 (aM_0 _ _ _ _ _) rfl 48 (by decide) (hts _ q1313) (fun _ h9 => h9) rfl dX12_wrongMoves_17 ?_
    refine lv_iload_n hx hb dX12_wrongMoves_20 rfl (lv_at hl 1 rfl) ?_
    refine li_iald (g := (τ 48)) hx hb hK hP 30 0 (aM_30 _ _ _ _ _) rfl (by omega) (by omega) (by decide) dX12_wrongMoves_21 ?_
    have r22 := hrs d1
    refine li_iconst hx hb dX12_wrongMoves_22 ?_
    refine li_icmp_eq (tgt := 31) hx hb (rgi r22.1 r22.2) ⟨by decide, by decide⟩ dX12_wrongMoves_23 (by decide) (fun c23 => ?_) (fun c23 => ?_)
    · refine li_iconst hx hb dX12_wrongMoves_31 ?_
      exact eRi hQ hx hb hr hlk dX12_wrongMoves_32 (⟨by exact congrArg (fun x => some (Value.int (ii x))) (show _ = wrM (τ 46) (τ 48) d1 by unfold wrM; omega), wrM_b _ _ _⟩)
    · refine li_bipush hx hb dX12_wrongMoves_26 (by decide) ?_
      refine lv_goto (tgt := 32) hx hb dX12_wrongMoves_28 (by decide) ?_
      exact eRi hQ hx hb hr hlk dX12_wrongMoves_32 (⟨by exact congrArg (fun x => some (Value.int (ii x))) (show _ = wrM (τ 46) (τ 48) d1 by unfold wrM; omega), wrM_b _ _ _⟩)
  · refine lv_aload_n hx hb dX12_wrongMoves_8 rfl (lv_at hl 0 rfl) ?_
    refine lv_iload_n hx hb dX12_wrongMoves_9 rfl (lv_at hl 1 rfl) ?_
    refine kR (va_runV (As := [.int (ii d1)]) (rest := []) ⟨hx, hb, hml, hown, hts⟩ (m_wrongRowM l G am ty τ ρ cs d1 (show rg d1 from hd1) (show ∀ i, 0 ≤ (τ 46) i ∧ (τ 46) i ≤ 2 from hh)) (cwV 1 hts (lw_V q1431 q1433 qs37 q87 q1434) rfl rfl rfl (by decide +kernel) ⟨Nat.le_of_ble_eq_true rfl, Nat.le_of_ble_eq_true rfl⟩) (pvR (r := (RX12, TX12, 52)) hK hP hD hX 0 (aM_0 _ _ _ _ _) rfl) rfl rfl hl.1 rfl (lv_room (Nat.le_of_ble_eq_true rfl)) dX12_wrongMoves_10 ⟨Nat.le_of_ble_eq_true rfl, Nat.le_of_ble_eq_true rfl⟩) (fun v hv => ?_)
    obtain ⟨rfl, hz10⟩ := hv
    have hz10 : -12 ≤ wrR (τ 46) d1 ∧ wrR (τ 46) d1 ≤ 0 := hz10
    refine li_top (b := (wrR (τ 46) d1)) rfl ?_
    refine lv_goto (tgt := 32) hx hb dX12_wrongMoves_13 (by decide) ?_
    exact eRi hQ hx hb hr hlk dX12_wrongMoves_32 (⟨by exact congrArg (fun x => some (Value.int (ii x))) (show _ = wrM (τ 46) (τ 48) d1 by unfold wrM; omega), wrM_b _ _ _⟩)
set_option maxHeartbeats 4000000 in
theorem m_keepM (l : Launch) (G : va_G) (am : Nat → Nat) (ty : Nat → ClassId) (τ ρ : mem) (cs : va_W) (d1 : Int) (w1 : Int) (m1 : Int)  (hd1 : rg d1) (hw1_ : rg w1) (hmv : rg m1) : cM l yX12_keep (ws_ yX12_keep cX12_keep 4 (some .int)) (rm4 2 0 0 45) G ty (wM am ty τ ρ ++ cs) [.ref (am 0), .int (ii d1), .int (ii w1), .int (ii m1)] 0 0 (fun r W' => ∃ (z : Int) (g : Int → Int) (h : Int → Int), r = some (.int (ii z)) ∧ W' = wM am ty (up (up τ 46 g) 47 h) (up ρ 14 (sc (0))) ++ cs ∧ ((((0 ≤ d1 ∧ d1 ≤ 7) ∧ (w1 = 0 ∨ (w1 = 1 ∧ isT m1))) ∧ z = 0 ∧ g = ug (τ 46) d1 w1 ∧ h = ug (τ 47) d1 m1) ∨ (¬ ((0 ≤ d1 ∧ d1 ≤ 7) ∧ (w1 = 0 ∨ (w1 = 1 ∧ isT m1))) ∧ z = -1 ∧ g = (τ 46) ∧ h = (τ 47)))) := by
  refine cM.of (by decide) (Nat.le_of_ble_eq_true rfl) ?_
  intro p e s m args below meth c A Q H locs hQ hx hb hr hml hown hlk hname hts hK hP hD hS hA hX ls hl
  have hl : lv_has ls 4 [(0, .ref (am 0)), (1, .int (ii d1)), (2, .int (ii w1)), (3, .int (ii m1))] := hl
  obtain ⟨hd1a, hd1b⟩ := id hd1
  obtain ⟨hw1_a, hw1_b⟩ := id hw1_
  obtain ⟨hmva, hmvb⟩ := id hmv
  refine lv_aload_n hx hb dX12_keep_0 rfl (lv_at hl 0 rfl) ?_
  refine li_iconst hx hb dX12_keep_1 ?_
  refine va_put (D := G) (ci := 11) (v := .int (ii 0)) (ty := .int) (C := RX12) (T := TX12) (N := 52) hx hb hts in_X12 tyX12 tyX12_ok nmX12 hown hK hP hD hS 0 (aM_0 _ _ _ _ _) rfl 14 (by decide) (hts _ q1279) (fun _ h9 => h9) rfl (tyX12_ok 14 (by decide)) rfl rfl (Nat.le_of_ble_eq_true rfl) dX12_keep_2 (fun H locs hP hD hS => ?_)
  have hP : va_P G gcl (wM am ty τ (up ρ 14 (sc (0))) ++ cs) H := hP
  have hD : va_D A (wM am ty τ (up ρ 14 (sc (0))) ++ cs) := hD
  refine lv_iload_n hx hb dX12_keep_5 rfl (lv_at hl 1 rfl) ?_
  refine lv_i2l (v := ll d1) hx hb dX12_keep_6 (ll_i hd1) ?_
  refine lv_lconst (v := ll 0) hx hb dX12_keep_7 (by decide) ?_
  refine lv_ldc2 (v := ll 7) hx hb hown (hts _ q1435) dX12_keep_8 ?_
  refine kR (va_runS (As := [.long (ll (d1)), .long (ll (0)), .long (ll (7))]) (rest := []) ⟨hx, hb, hml, hown, hts⟩ (m_inM l G ty (wM am ty τ (up ρ 14 (sc (0))) ++ cs) d1 0 7 (rg_rl hd1) ⟨by decide, by decide⟩ ⟨by decide, by decide⟩) (va_cwS 3 hts (lw_S q1436 q1437 q87 q1438) rfl rfl rfl (by decide +kernel) ⟨Nat.le_of_ble_eq_true rfl, Nat.le_of_ble_eq_true rfl⟩) (psR hK hP hD hX) rfl rfl hl.1 rfl (lv_room (Nat.le_of_ble_eq_true rfl)) dX12_keep_11 ⟨Nat.le_of_ble_eq_true rfl, Nat.le_of_ble_eq_true rfl⟩) (fun v hv => ?_)
  obtain ⟨z11, rfl, ⟨rfl, h11⟩ | ⟨rfl, h11⟩⟩ := hv
  · refine li_if_eq (tgt := 39) hx hb ⟨by decide, by decide⟩ dX12_keep_14 (by decide) (fun c14 => ?_) (fun c14 => ?_)
    · exact absurd c14 (by decide)
    · refine lv_iload_n hx hb dX12_keep_17 rfl (lv_at hl 2 rfl) ?_
      refine lv_i2l (v := ll w1) hx hb dX12_keep_18 (ll_i hw1_) ?_
      refine lv_lconst (v := ll 0) hx hb dX12_keep_19 (by decide) ?_
      refine lv_lconst (v := ll 1) hx hb dX12_keep_20 (by decide) ?_
      refine kR (va_runS (As := [.long (ll (w1)), .long (ll (0)), .long (ll (1))]) (rest := []) ⟨hx, hb, hml, hown, hts⟩ (m_inM l G ty (wM am ty τ (up ρ 14 (sc (0))) ++ cs) w1 0 1 (rg_rl hw1_) ⟨by decide, by decide⟩ ⟨by decide, by decide⟩) (va_cwS 3 hts (lw_S q1436 q1437 q87 q1438) rfl rfl rfl (by decide +kernel) ⟨Nat.le_of_ble_eq_true rfl, Nat.le_of_ble_eq_true rfl⟩) (psR hK hP hD hX) rfl rfl hl.1 rfl (lv_room (Nat.le_of_ble_eq_true rfl)) dX12_keep_21 ⟨Nat.le_of_ble_eq_true rfl, Nat.le_of_ble_eq_true rfl⟩) (fun v hv => ?_)
      obtain ⟨z21, rfl, ⟨rfl, h21⟩ | ⟨rfl, h21⟩⟩ := hv
      · refine li_if_eq (tgt := 39) hx hb ⟨by decide, by decide⟩ dX12_keep_24 (by decide) (fun c24 => ?_) (fun c24 => ?_)
        · exact absurd c24 (by decide)
        · refine lv_iload_n hx hb dX12_keep_27 rfl (lv_at hl 2 rfl) ?_
          refine li_iconst hx hb dX12_keep_28 ?_
          refine li_icmp_ne (tgt := 41) hx hb hw1_ ⟨by decide, by decide⟩ dX12_keep_29 (by decide) (fun c29 => ?_) (fun c29 => ?_)
          · refine lv_aload_n hx hb dX12_keep_41 rfl (lv_at hl 0 rfl) ?_
            refine va_get (D := G) (ci := 11) (v := .ref (am 28)) (C := RX12) (T := TX12) (N := 52) hx hb hts in_X12 hown hK hP 0 (aM_0 _ _ _ _ _) rfl 46 (by decide) (hts _ q1311) (fun _ h9 => h9) rfl dX12_keep_42 ?_
            refine lv_iload_n hx hb dX12_keep_45 rfl (lv_at hl 1 rfl) ?_
            refine lv_iload_n hx hb dX12_keep_46 rfl (lv_at hl 2 rfl) ?_
            refine li_iast (g := (τ 46)) (W2 := wM am ty (up τ 46 (ug (τ 46) d1 w1)) (up ρ 14 (sc (0))) ++ cs) hx hb hK hP hD hS 28 0 (aM_28 _ _ _ _ _) rfl (by omega) (by omega) (by decide) rfl dX12_keep_47 (fun H locs hP hD hS => ?_)
            refine lv_aload_n hx hb dX12_keep_48 rfl (lv_at hl 0 rfl) ?_
            refine va_get (D := G) (ci := 11) (v := .ref (am 29)) (C := RX12) (T := TX12) (N := 52) hx hb hts in_X12 hown hK hP 0 (aM_0 _ _ _ _ _) rfl 47 (by decide) (hts _ q1312) (fun _ h9 => h9) rfl dX12_keep_49 ?_
            refine lv_iload_n hx hb dX12_keep_52 rfl (lv_at hl 1 rfl) ?_
            refine lv_iload_n hx hb dX12_keep_53 rfl (lv_at hl 3 rfl) ?_
            refine li_iast (g := (τ 47)) (W2 := wM am ty (up (up τ 46 (ug (τ 46) d1 w1)) 47 (ug (τ 47) d1 m1)) (up ρ 14 (sc (0))) ++ cs) hx hb hK hP hD hS 29 0 (aM_29 _ _ _ _ _) rfl (by omega) (by omega) (by decide) rfl dX12_keep_54 (fun H locs hP hD hS => ?_)
            refine li_iconst hx hb dX12_keep_55 ?_
            exact eMi hQ hx hb hr hlk hP hD hS (Nat.le_of_ble_eq_true rfl) (Nat.le_of_ble_eq_true rfl) dX12_keep_56 (⟨0, (ug (τ 46) d1 w1), (ug (τ 47) d1 m1), rfl, rfl, .inl ⟨⟨by omega, .inl (by omega)⟩, rfl, rfl, rfl⟩⟩)
          · refine lv_iload_n hx hb dX12_keep_32 rfl (lv_at hl 3 rfl) ?_
            refine kR (va_runS (As := [.int (ii m1)]) (rest := []) ⟨hx, hb, hml, hown, hts⟩ (m_isMoveM l G ty (wM am ty τ (up ρ 14 (sc (0))) ++ cs) m1 hmv) (va_cwS 1 hts (lw_S q1510 q1511 q87 q1512) rfl rfl rfl (by decide +kernel) ⟨Nat.le_of_ble_eq_true rfl, Nat.le_of_ble_eq_true rfl⟩) (psR hK hP hD hX) rfl rfl hl.1 rfl (lv_room (Nat.le_of_ble_eq_true rfl)) dX12_keep_33 ⟨Nat.le_of_ble_eq_true rfl, Nat.le_of_ble_eq_true rfl⟩) (fun v hv => ?_)
            obtain ⟨z33, rfl, ⟨rfl, h33⟩ | ⟨rfl, h33⟩⟩ := hv
            · refine li_if_ne (tgt := 41) hx hb ⟨by decide, by decide⟩ dX12_keep_36 (by decide) (fun c36 => ?_) (fun c36 => ?_)
              · refine lv_aload_n hx hb dX12_keep_41 rfl (lv_at hl 0 rfl) ?_
                refine va_get (D := G) (ci := 11) (v := .ref (am 28)) (C := RX12) (T := TX12) (N := 52) hx hb hts in_X12 hown hK hP 0 (aM_0 _ _ _ _ _) rfl 46 (by decide) (hts _ q1311) (fun _ h9 => h9) rfl dX12_keep_42 ?_
                refine lv_iload_n hx hb dX12_keep_45 rfl (lv_at hl 1 rfl) ?_
                refine lv_iload_n hx hb dX12_keep_46 rfl (lv_at hl 2 rfl) ?_
                refine li_iast (g := (τ 46)) (W2 := wM am ty (up τ 46 (ug (τ 46) d1 w1)) (up ρ 14 (sc (0))) ++ cs) hx hb hK hP hD hS 28 0 (aM_28 _ _ _ _ _) rfl (by omega) (by omega) (by decide) rfl dX12_keep_47 (fun H locs hP hD hS => ?_)
                refine lv_aload_n hx hb dX12_keep_48 rfl (lv_at hl 0 rfl) ?_
                refine va_get (D := G) (ci := 11) (v := .ref (am 29)) (C := RX12) (T := TX12) (N := 52) hx hb hts in_X12 hown hK hP 0 (aM_0 _ _ _ _ _) rfl 47 (by decide) (hts _ q1312) (fun _ h9 => h9) rfl dX12_keep_49 ?_
                refine lv_iload_n hx hb dX12_keep_52 rfl (lv_at hl 1 rfl) ?_
                refine lv_iload_n hx hb dX12_keep_53 rfl (lv_at hl 3 rfl) ?_
                refine li_iast (g := (τ 47)) (W2 := wM am ty (up (up τ 46 (ug (τ 46) d1 w1)) 47 (ug (τ 47) d1 m1)) (up ρ 14 (sc (0))) ++ cs) hx hb hK hP hD hS 29 0 (aM_29 _ _ _ _ _) rfl (by omega) (by omega) (by decide) rfl dX12_keep_54 (fun H locs hP hD hS => ?_)
                refine li_iconst hx hb dX12_keep_55 ?_
                exact eMi hQ hx hb hr hlk hP hD hS (Nat.le_of_ble_eq_true rfl) (Nat.le_of_ble_eq_true rfl) dX12_keep_56 (⟨0, (ug (τ 46) d1 w1), (ug (τ 47) d1 m1), rfl, rfl, .inl ⟨⟨by omega, .inr ⟨by omega, h33⟩⟩, rfl, rfl, rfl⟩⟩)
              · exact absurd c36 (by decide)
            · refine li_if_ne (tgt := 41) hx hb ⟨by decide, by decide⟩ dX12_keep_36 (by decide) (fun c36 => ?_) (fun c36 => ?_)
              · exact absurd c36 (by decide)
              · refine li_iconst hx hb dX12_keep_39 ?_
                exact eMi hQ hx hb hr hlk hP hD hS (Nat.le_of_ble_eq_true rfl) (Nat.le_of_ble_eq_true rfl) dX12_keep_40 (⟨-1, (τ 46), (τ 47), rfl, rfl, .inr ⟨fun q => by rcases q.2 with q | q; omega; exact h33 q.2, rfl, rfl, rfl⟩⟩)
      · refine li_if_eq (tgt := 39) hx hb ⟨by decide, by decide⟩ dX12_keep_24 (by decide) (fun c24 => ?_) (fun c24 => ?_)
        · refine li_iconst hx hb dX12_keep_39 ?_
          exact eMi hQ hx hb hr hlk hP hD hS (Nat.le_of_ble_eq_true rfl) (Nat.le_of_ble_eq_true rfl) dX12_keep_40 (⟨-1, (τ 46), (τ 47), rfl, rfl, .inr ⟨fun q => by omega, rfl, rfl, rfl⟩⟩)
        · exact absurd c24 (by decide)
  · refine li_if_eq (tgt := 39) hx hb ⟨by decide, by decide⟩ dX12_keep_14 (by decide) (fun c14 => ?_) (fun c14 => ?_)
    · refine li_iconst hx hb dX12_keep_39 ?_
      exact eMi hQ hx hb hr hlk hP hD hS (Nat.le_of_ble_eq_true rfl) (Nat.le_of_ble_eq_true rfl) dX12_keep_40 (⟨-1, (τ 46), (τ 47), rfl, rfl, .inr ⟨fun q => by omega, rfl, rfl, rfl⟩⟩)
    · exact absurd c14 (by decide)
set_option maxHeartbeats 4000000 in
theorem m_narrowedM (l : Launch) (G : va_G) (ty : Nat → ClassId) (ws : va_W) (v1 s1 : Int) (hv1 : rg v1) (hs1_ : 0 ≤ s1 ∧ s1 ≤ 2) : cR l yX12_narrowed (ws_ yX12_narrowed cX12_narrowed 2 (some .long)) (rm4 0 0 0 0) G ty (ws) [.int (ii v1), .int (ii s1)] (fun r => r = some (.long (ll (nrw s1 v1)))) := by
  refine cR.of (by decide) (Nat.le_of_ble_eq_true rfl) ?_
  intro p e s m args below meth c Q hQ hx hb hr hml hown hlk hts hK hP hD hX ls hl
  have hl : lv_has ls 2 [(0, .int (ii v1)), (1, .int (ii s1))] := hl
  obtain ⟨hva, hvb⟩ := id hv1
  obtain ⟨hsa, hsb⟩ := id hs1_
  refine lv_iload_n hx hb dX12_narrowed_0 rfl (lv_at hl 1 rfl) ?_
  refine li_if_ne (tgt := 10) hx hb ⟨by omega, by omega⟩ dX12_narrowed_1 (by decide) (fun c1 => ?_) (fun c1 => ?_)
  · refine lv_iload_n hx hb dX12_narrowed_10 rfl (lv_at hl 1 rfl) ?_
    refine li_iconst hx hb dX12_narrowed_11 ?_
    refine li_icmp_ne (tgt := 21) hx hb ⟨by omega, by omega⟩ ⟨by decide, by decide⟩ dX12_narrowed_12 (by decide) (fun c12 => ?_) (fun c12 => ?_)
    · refine lv_iload_n hx hb dX12_narrowed_21 rfl (lv_at hl 0 rfl) ?_
      refine lv_i2l (v := ll v1) hx hb dX12_narrowed_22 (ll_i hv1) ?_
      exact eRl hQ hx hb hr hlk dX12_narrowed_23 (by exact congrArg (fun x => some (Value.long (ll x))) (show _ = nrw s1 v1 by unfold nrw; rw [if_neg (by omega), if_neg (by omega)]))
    · refine lv_iload_n hx hb dX12_narrowed_15 rfl (lv_at hl 0 rfl) ?_
      refine lv_i2s (v := ii (nsh v1)) hx hb dX12_narrowed_16 (ii_b16 _) ?_
      refine lv_i2l (v := ll (nsh v1)) hx hb dX12_narrowed_17 (ll_i (nsh_rg _)) ?_
      refine lv_goto (tgt := 23) hx hb dX12_narrowed_18 (by decide) ?_
      exact eRl hQ hx hb hr hlk dX12_narrowed_23 (by exact congrArg (fun x => some (Value.long (ll x))) (show _ = nrw s1 v1 by unfold nrw; rw [if_neg (by omega), if_pos (by omega)]))
  · refine lv_iload_n hx hb dX12_narrowed_4 rfl (lv_at hl 0 rfl) ?_
    refine lv_i2b (v := ii (nby v1)) hx hb dX12_narrowed_5 (ii_b8 _) ?_
    refine lv_i2l (v := ll (nby v1)) hx hb dX12_narrowed_6 (ll_i (nby_rg _)) ?_
    refine lv_goto (tgt := 23) hx hb dX12_narrowed_7 (by decide) ?_
    exact eRl hQ hx hb hr hlk dX12_narrowed_23 (by exact congrArg (fun x => some (Value.long (ll x))) (show _ = nrw s1 v1 by unfold nrw; rw [if_pos (by omega)]))
set_option maxHeartbeats 4000000 in
theorem m_rowM (l : Launch) (G : va_G) (am : Nat → Nat) (ty : Nat → ClassId) (τ ρ : mem) (cs : va_W) (d1 : Int) (s1 : Int) (n1 : Int)  (hd1 : rg d1) (hs1_ : rg s1) (hn1_ : rg n1) : cM l yX12_row (ws_ yX12_row cX12_row 5 (some .int)) (rm4 1 0 0 25) G ty (wM am ty τ ρ ++ cs) [.ref (am 0), .int (ii d1), .int (ii s1), .int (ii n1)] 0 0 (fun r W' => ∃ (z : Int) (g : Int → Int) (h : Int → Int) (i : Int → Int) (w : Int → Int), r = some (.int (ii z)) ∧ W' = wM am ty (up (up (up (up τ 46 g) 48 h) 49 i) 50 w) (up ρ 14 (sc (0))) ++ cs ∧ (((((0 ≤ d1 ∧ d1 ≤ 7) ∧ 0 ≤ s1 ∧ s1 ≤ 2) ∧ n1 ≤ 100) ∧ 0 ≤ n1 ∧ z = 0 ∧ g = ug (τ 46) d1 2 ∧ h = ug (τ 48) d1 s1 ∧ i = ug (τ 49) d1 n1 ∧ w = mvr (fun _ => 0) (τ 50) 0 (100 * d1) 100) ∨ ((((((0 ≤ d1 ∧ d1 ≤ 7) ∧ 0 ≤ s1 ∧ s1 ≤ 2) ∧ n1 ≤ 100) ∧ n1 < 0 ∧ z = -14) ∨ (¬ (((0 ≤ d1 ∧ d1 ≤ 7) ∧ 0 ≤ s1 ∧ s1 ≤ 2) ∧ n1 ≤ 100) ∧ z = -1)) ∧ g = (τ 46) ∧ h = (τ 48) ∧ i = (τ 49) ∧ w = (τ 50)))) := by
  refine cM.of (by decide) (Nat.le_of_ble_eq_true rfl) ?_
  intro p e s m args below meth c A Q H locs hQ hx hb hr hml hown hlk hname hts hK hP hD hS hA hX ls hl
  have hl : lv_has ls 5 [(0, .ref (am 0)), (1, .int (ii d1)), (2, .int (ii s1)), (3, .int (ii n1))] := hl
  obtain ⟨hd1a, hd1b⟩ := id hd1
  obtain ⟨hs1_a, hs1_b⟩ := id hs1_
  obtain ⟨hn1_a, hn1_b⟩ := id hn1_
  refine lv_aload_n hx hb dX12_row_0 rfl (lv_at hl 0 rfl) ?_
  refine li_iconst hx hb dX12_row_1 ?_
  refine va_put (D := G) (ci := 11) (v := .int (ii 0)) (ty := .int) (C := RX12) (T := TX12) (N := 52) hx hb hts in_X12 tyX12 tyX12_ok nmX12 hown hK hP hD hS 0 (aM_0 _ _ _ _ _) rfl 14 (by decide) (hts _ q1279) (fun _ h9 => h9) rfl (tyX12_ok 14 (by decide)) rfl rfl (Nat.le_of_ble_eq_true rfl) dX12_row_2 (fun H locs hP hD hS => ?_)
  have hP : va_P G gcl (wM am ty τ (up ρ 14 (sc (0))) ++ cs) H := hP
  have hD : va_D A (wM am ty τ (up ρ 14 (sc (0))) ++ cs) := hD
  refine lv_iload_n hx hb dX12_row_5 rfl (lv_at hl 1 rfl) ?_
  refine lv_i2l (v := ll d1) hx hb dX12_row_6 (ll_i hd1) ?_
  refine lv_lconst (v := ll 0) hx hb dX12_row_7 (by decide) ?_
  refine lv_ldc2 (v := ll 7) hx hb hown (hts _ q1435) dX12_row_8 ?_
  refine kR (va_runS (As := [.long (ll (d1)), .long (ll (0)), .long (ll (7))]) (rest := []) ⟨hx, hb, hml, hown, hts⟩ (m_inM l G ty (wM am ty τ (up ρ 14 (sc (0))) ++ cs) d1 0 7 (rg_rl hd1) ⟨by decide, by decide⟩ ⟨by decide, by decide⟩) (va_cwS 3 hts (lw_S q1436 q1437 q87 q1438) rfl rfl rfl (by decide +kernel) ⟨Nat.le_of_ble_eq_true rfl, Nat.le_of_ble_eq_true rfl⟩) (psR hK hP hD hX) rfl rfl hl.1 rfl (lv_room (Nat.le_of_ble_eq_true rfl)) dX12_row_11 ⟨Nat.le_of_ble_eq_true rfl, Nat.le_of_ble_eq_true rfl⟩) (fun v hv => ?_)
  obtain ⟨z11, rfl, ⟨rfl, h11⟩ | ⟨rfl, h11⟩⟩ := hv
  · refine li_if_eq (tgt := 35) hx hb ⟨by decide, by decide⟩ dX12_row_14 (by decide) (fun c14 => ?_) (fun c14 => ?_)
    · exact absurd c14 (by decide)
    · refine lv_iload_n hx hb dX12_row_17 rfl (lv_at hl 2 rfl) ?_
      refine lv_i2l (v := ll s1) hx hb dX12_row_18 (ll_i hs1_) ?_
      refine lv_lconst (v := ll 0) hx hb dX12_row_19 (by decide) ?_
      refine lv_ldc2 (v := ll 2) hx hb hown (hts _ q1686) dX12_row_20 ?_
      refine kR (va_runS (As := [.long (ll (s1)), .long (ll (0)), .long (ll (2))]) (rest := []) ⟨hx, hb, hml, hown, hts⟩ (m_inM l G ty (wM am ty τ (up ρ 14 (sc (0))) ++ cs) s1 0 2 (rg_rl hs1_) ⟨by decide, by decide⟩ ⟨by decide, by decide⟩) (va_cwS 3 hts (lw_S q1436 q1437 q87 q1438) rfl rfl rfl (by decide +kernel) ⟨Nat.le_of_ble_eq_true rfl, Nat.le_of_ble_eq_true rfl⟩) (psR hK hP hD hX) rfl rfl hl.1 rfl (lv_room (Nat.le_of_ble_eq_true rfl)) dX12_row_23 ⟨Nat.le_of_ble_eq_true rfl, Nat.le_of_ble_eq_true rfl⟩) (fun v hv => ?_)
      obtain ⟨z23, rfl, ⟨rfl, h23⟩ | ⟨rfl, h23⟩⟩ := hv
      · refine li_if_eq (tgt := 35) hx hb ⟨by decide, by decide⟩ dX12_row_26 (by decide) (fun c26 => ?_) (fun c26 => ?_)
        · exact absurd c26 (by decide)
        · refine lv_iload_n hx hb dX12_row_29 rfl (lv_at hl 3 rfl) ?_
          refine li_bipush hx hb dX12_row_30 (by decide) ?_
          refine li_icmp_le (tgt := 37) hx hb hn1_ ⟨by decide, by decide⟩ dX12_row_32 (by decide) (fun c32 => ?_) (fun c32 => ?_)
          · refine lv_iload_n hx hb dX12_row_37 rfl (lv_at hl 3 rfl) ?_
            refine li_if_ge (tgt := 44) hx hb hn1_ dX12_row_38 (by decide) (fun c38 => ?_) (fun c38 => ?_)
            · refine lv_aload_n hx hb dX12_row_44 rfl (lv_at hl 0 rfl) ?_
              refine va_get (D := G) (ci := 11) (v := .ref (am 28)) (C := RX12) (T := TX12) (N := 52) hx hb hts in_X12 hown hK hP 0 (aM_0 _ _ _ _ _) rfl 46 (by decide) (hts _ q1311) (fun _ h9 => h9) rfl dX12_row_45 ?_
              refine lv_iload_n hx hb dX12_row_48 rfl (lv_at hl 1 rfl) ?_
              refine li_iconst hx hb dX12_row_49 ?_
              refine li_iast (g := (τ 46)) (W2 := wM am ty (up τ 46 (ug (τ 46) d1 2)) (up ρ 14 (sc (0))) ++ cs) hx hb hK hP hD hS 28 0 (aM_28 _ _ _ _ _) rfl (by omega) (by omega) (by decide) rfl dX12_row_50 (fun H locs hP hD hS => ?_)
              refine lv_aload_n hx hb dX12_row_51 rfl (lv_at hl 0 rfl) ?_
              refine va_get (D := G) (ci := 11) (v := .ref (am 30)) (C := RX12) (T := TX12) (N := 52) hx hb hts in_X12 hown hK hP 0 (aM_0 _ _ _ _ _) rfl 48 (by decide) (hts _ q1313) (fun _ h9 => h9) rfl dX12_row_52 ?_
              refine lv_iload_n hx hb dX12_row_55 rfl (lv_at hl 1 rfl) ?_
              refine lv_iload_n hx hb dX12_row_56 rfl (lv_at hl 2 rfl) ?_
              refine li_iast (g := (τ 48)) (W2 := wM am ty (up (up τ 46 (ug (τ 46) d1 2)) 48 (ug (τ 48) d1 s1)) (up ρ 14 (sc (0))) ++ cs) hx hb hK hP hD hS 30 0 (aM_30 _ _ _ _ _) rfl (by omega) (by omega) (by decide) rfl dX12_row_57 (fun H locs hP hD hS => ?_)
              refine lv_aload_n hx hb dX12_row_58 rfl (lv_at hl 0 rfl) ?_
              refine va_get (D := G) (ci := 11) (v := .ref (am 31)) (C := RX12) (T := TX12) (N := 52) hx hb hts in_X12 hown hK hP 0 (aM_0 _ _ _ _ _) rfl 49 (by decide) (hts _ q1314) (fun _ h9 => h9) rfl dX12_row_59 ?_
              refine lv_iload_n hx hb dX12_row_62 rfl (lv_at hl 1 rfl) ?_
              refine lv_iload_n hx hb dX12_row_63 rfl (lv_at hl 3 rfl) ?_
              refine li_iast (g := (τ 49)) (W2 := wM am ty (up (up (up τ 46 (ug (τ 46) d1 2)) 48 (ug (τ 48) d1 s1)) 49 (ug (τ 49) d1 n1)) (up ρ 14 (sc (0))) ++ cs) hx hb hK hP hD hS 31 0 (aM_31 _ _ _ _ _) rfl (by omega) (by omega) (by decide) rfl dX12_row_64 (fun H locs hP hD hS => ?_)
              refine li_iconst hx hb dX12_row_65 ?_
              refine lv_istore (lv' := [(4, .int (ii 0)), (0, .ref (am 0)), (1, .int (ii d1)), (2, .int (ii s1)), (3, .int (ii n1))]) hx hb dX12_row_66 hl (by decide) rfl (fun ls hl => ?_)
              have L68 : ∀ (n : Nat) (k1 : Int) (W1 : Int → Int) (_ : 0 ≤ k1) (_ : k1 ≤ 100) (_ : W1 = mvr (fun _ => 0) (τ 50) 0 (100 * d1) k1) (_ : (100 - k1).toNat < n) (H : Heap) (locs : List Loc) (_ : va_P G gcl (wM am ty (up (up (up (up τ 46 (ug (τ 46) d1 2)) 48 (ug (τ 48) d1 s1)) 49 (ug (τ 49) d1 n1)) 50 W1) (up ρ 14 (sc (0))) ++ cs) H) (_ : va_D A (wM am ty (up (up (up (up τ 46 (ug (τ 46) d1 2)) 48 (ug (τ 48) d1 s1)) 49 (ug (τ 49) d1 n1)) 50 W1) (up ρ 14 (sc (0))) ++ cs)) (_ : va_S A s.heap H locs) (ls : Array Slot), lv_has ls 5 [(4, .int (ii k1)), (0, .ref (am 0)), (1, .int (ii d1)), (2, .int (ii s1)), (3, .int (ii n1))] → W p l e (rm4 1 0 0 25) s m args below meth c H locs 0 0 Q (F0 m 68 ls []) := by
                intro n
                induction n with
                | zero =>
                  intro k1 W1 hk0 hk1 hw hm
                  exact absurd hm (Nat.not_lt_zero _)
                | succ n ih =>
                  intro k1 W1 hk0 hk1 hw hm H locs hP hD hS ls hl
                  refine lv_iload hx hb dX12_row_68 (lv_at hl 0 rfl) ?_
                  refine li_bipush hx hb dX12_row_70 (by decide) ?_
                  refine li_icmp_ge (tgt := 94) hx hb ⟨by omega, by omega⟩ ⟨by decide, by decide⟩ dX12_row_72 (by decide) (fun c72 => ?_) (fun c72 => ?_)
                  · refine li_iconst hx hb dX12_row_94 ?_
                    exact eMi hQ hx hb hr hlk hP hD hS (Nat.le_of_ble_eq_true rfl) (Nat.le_of_ble_eq_true rfl) dX12_row_95 (⟨0, (ug (τ 46) d1 2), (ug (τ 48) d1 s1), (ug (τ 49) d1 n1), W1, rfl, rfl, .inl ⟨by omega, by omega, rfl, rfl, rfl, rfl, by rw [hw, show k1 = 100 by omega]⟩⟩)
                  · refine lv_aload_n hx hb dX12_row_75 rfl (lv_at hl 1 rfl) ?_
                    refine va_get (D := G) (ci := 11) (v := .ref (am 32)) (C := RX12) (T := TX12) (N := 52) hx hb hts in_X12 hown hK hP 0 (aM_0 _ _ _ _ _) rfl 50 (by decide) (hts _ q1315) (fun _ h9 => h9) rfl dX12_row_76 ?_
                    refine li_bipush hx hb dX12_row_79 (by decide) ?_
                    refine lv_iload_n hx hb dX12_row_81 rfl (lv_at hl 2 rfl) ?_
                    refine li_mul hx hb dX12_row_82 ?_
                    refine lv_iload hx hb dX12_row_83 (lv_at hl 0 rfl) ?_
                    refine li_add hx hb dX12_row_85 ?_
                    refine lv_lconst (v := ll 0) hx hb dX12_row_86 (by decide) ?_
                    refine li_last (g := W1) (W2 := wM am ty (up (up (up (up τ 46 (ug (τ 46) d1 2)) 48 (ug (τ 48) d1 s1)) 49 (ug (τ 49) d1 n1)) 50 (ug W1 (100 * d1 + k1) 0)) (up ρ 14 (sc (0))) ++ cs) hx hb hK hP hD hS 32 4 (aM_32 _ _ _ _ _) rfl (by omega) (by omega) (by decide) rfl dX12_row_87 (fun H locs hP hD hS => ?_)
                    refine li_iinc (a := k1) (lv' := [(4, .int (ii (k1 + 1))), (0, .ref (am 0)), (1, .int (ii d1)), (2, .int (ii s1)), (3, .int (ii n1))]) hx hb dX12_row_88 hl (k := 0) rfl (by decide) rfl (fun ls hl => ?_)
                    refine lv_goto (tgt := 68) hx hb dX12_row_91 (by decide) ?_
                    exact ih (k1 + 1) (ug W1 (100 * d1 + k1) 0) (by omega) (by omega) (by rw [hw]; exact mvr_s hk0) (by omega) H locs hP hD hS ls (lv_sub hl [0, 1, 2, 3, 4] rfl)
              exact L68 _ 0 (τ 50) (by omega) (by omega) ((mvr_0 _ _ _ _).symm) (Nat.lt_succ_self _) H locs hP hD hS ls (lv_sub hl [0, 1, 2, 3, 4] rfl)
            · refine li_bipush hx hb dX12_row_41 (by decide) ?_
              exact eMi hQ hx hb hr hlk hP hD hS (Nat.le_of_ble_eq_true rfl) (Nat.le_of_ble_eq_true rfl) dX12_row_43 (⟨-14, (τ 46), (τ 48), (τ 49), (τ 50), rfl, rfl, .inr ⟨.inl ⟨by omega, by omega, rfl⟩, rfl, rfl, rfl, rfl⟩⟩)
          · refine li_iconst hx hb dX12_row_35 ?_
            exact eMi hQ hx hb hr hlk hP hD hS (Nat.le_of_ble_eq_true rfl) (Nat.le_of_ble_eq_true rfl) dX12_row_36 (⟨-1, (τ 46), (τ 48), (τ 49), (τ 50), rfl, rfl, .inr ⟨.inr ⟨by omega, rfl⟩, rfl, rfl, rfl, rfl⟩⟩)
      · refine li_if_eq (tgt := 35) hx hb ⟨by decide, by decide⟩ dX12_row_26 (by decide) (fun c26 => ?_) (fun c26 => ?_)
        · refine li_iconst hx hb dX12_row_35 ?_
          exact eMi hQ hx hb hr hlk hP hD hS (Nat.le_of_ble_eq_true rfl) (Nat.le_of_ble_eq_true rfl) dX12_row_36 (⟨-1, (τ 46), (τ 48), (τ 49), (τ 50), rfl, rfl, .inr ⟨.inr ⟨by omega, rfl⟩, rfl, rfl, rfl, rfl⟩⟩)
        · exact absurd c26 (by decide)
  · refine li_if_eq (tgt := 35) hx hb ⟨by decide, by decide⟩ dX12_row_14 (by decide) (fun c14 => ?_) (fun c14 => ?_)
    · refine li_iconst hx hb dX12_row_35 ?_
      exact eMi hQ hx hb hr hlk hP hD hS (Nat.le_of_ble_eq_true rfl) (Nat.le_of_ble_eq_true rfl) dX12_row_36 (⟨-1, (τ 46), (τ 48), (τ 49), (τ 50), rfl, rfl, .inr ⟨.inr ⟨by omega, rfl⟩, rfl, rfl, rfl, rfl⟩⟩)
    · exact absurd c14 (by decide)
set_option maxHeartbeats 4000000 in
theorem m_putM (l : Launch) (G : va_G) (am : Nat → Nat) (ty : Nat → ClassId) (τ ρ : mem) (cs : va_W) (d1 : Int) (i1 : Int) (v1 : Int)  (hd1 : rg d1) (hi1 : rg i1) (hv1 : rg v1) (hh : ∀ i, 0 ≤ (τ 46) i ∧ (τ 46) i ≤ 2) (hrs : ∀ i, 0 ≤ (τ 48) i ∧ (τ 48) i ≤ 2) (hrm : ∀ i, 0 ≤ (τ 49) i ∧ (τ 49) i ≤ 100) : cM l yX12_put (ws_ yX12_put cX12_put 5 (some .int)) (rm4 2 0 0 46) G ty (wM am ty τ ρ ++ cs) [.ref (am 0), .int (ii d1), .int (ii i1), .int (ii v1)] 0 0 (fun r W' => ∃ (z : Int) (w : Int → Int), r = some (.int (ii z)) ∧ W' = wM am ty (up τ 50 w) (up ρ 14 (sc (0))) ++ cs ∧ ((wrR (τ 46) d1 < 0 ∧ z = wrR (τ 46) d1 ∧ w = (τ 50)) ∨ (wrR (τ 46) d1 = 0 ∧ (((0 ≤ i1 ∧ i1 < (τ 49) d1) ∧ z = 0 ∧ w = ug (τ 50) (100 * d1 + i1) (nrw ((τ 48) d1) v1)) ∨ (¬ (0 ≤ i1 ∧ i1 < (τ 49) d1) ∧ z = -13 ∧ w = (τ 50)))))) := by
  refine cM.of (by decide) (Nat.le_of_ble_eq_true rfl) ?_
  intro p e s m args below meth c A Q H locs hQ hx hb hr hml hown hlk hname hts hK hP hD hS hA hX ls hl
  have hl : lv_has ls 5 [(0, .ref (am 0)), (1, .int (ii d1)), (2, .int (ii i1)), (3, .int (ii v1))] := hl
  obtain ⟨hd1a, hd1b⟩ := id hd1
  obtain ⟨hi1a, hi1b⟩ := id hi1
  obtain ⟨hv1a, hv1b⟩ := id hv1
  refine lv_aload_n hx hb dX12_put_0 rfl (lv_at hl 0 rfl) ?_
  refine li_iconst hx hb dX12_put_1 ?_
  refine va_put (D := G) (ci := 11) (v := .int (ii 0)) (ty := .int) (C := RX12) (T := TX12) (N := 52) hx hb hts in_X12 tyX12 tyX12_ok nmX12 hown hK hP hD hS 0 (aM_0 _ _ _ _ _) rfl 14 (by decide) (hts _ q1279) (fun _ h9 => h9) rfl (tyX12_ok 14 (by decide)) rfl rfl (Nat.le_of_ble_eq_true rfl) dX12_put_2 (fun H locs hP hD hS => ?_)
  have hP : va_P G gcl (wM am ty τ (up ρ 14 (sc (0))) ++ cs) H := hP
  have hD : va_D A (wM am ty τ (up ρ 14 (sc (0))) ++ cs) := hD
  refine lv_aload_n hx hb dX12_put_5 rfl (lv_at hl 0 rfl) ?_
  refine lv_iload_n hx hb dX12_put_6 rfl (lv_at hl 1 rfl) ?_
  refine kR (va_runV (As := [.int (ii d1)]) (rest := []) ⟨hx, hb, hml, hown, hts⟩ (m_wrongRowM l G am ty τ (up ρ 14 (sc (0))) cs d1 (show rg d1 from hd1) (show ∀ i, 0 ≤ (τ 46) i ∧ (τ 46) i ≤ 2 from hh)) (cwV 1 hts (lw_V q1431 q1433 qs37 q87 q1434) rfl rfl rfl (by decide +kernel) ⟨Nat.le_of_ble_eq_true rfl, Nat.le_of_ble_eq_true rfl⟩) (pvR (r := (RX12, TX12, 52)) hK hP hD hX 0 (aM_0 _ _ _ _ _) rfl) rfl rfl hl.1 rfl (lv_room (Nat.le_of_ble_eq_true rfl)) dX12_put_7 ⟨Nat.le_of_ble_eq_true rfl, Nat.le_of_ble_eq_true rfl⟩) (fun v hv => ?_)
  obtain ⟨rfl, hz7⟩ := hv
  have hz7 : -12 ≤ wrR (τ 46) d1 ∧ wrR (τ 46) d1 ≤ 0 := hz7
  refine li_top (b := (wrR (τ 46) d1)) rfl ?_
  refine lv_istore (lv' := [(4, .int (ii (wrR (τ 46) d1))), (0, .ref (am 0)), (1, .int (ii d1)), (2, .int (ii i1)), (3, .int (ii v1))]) hx hb dX12_put_10 hl (by decide) rfl (fun ls hl => ?_)
  refine lv_iload hx hb dX12_put_12 (lv_at hl 0 rfl) ?_
  refine li_if_ge (tgt := 20) hx hb ⟨Int.le_trans (by decide) hz7.1, Int.le_trans hz7.2 (by decide)⟩ dX12_put_14 (by decide) (fun c14 => ?_) (fun c14 => ?_)
  · have hw0 := wrR_0 c14
    have hwz : wrR (τ 46) d1 = 0 := by omega
    have hmd := hrm d1
    refine lv_iload_n hx hb dX12_put_20 rfl (lv_at hl 3 rfl) ?_
    refine lv_i2l (v := ll i1) hx hb dX12_put_21 (ll_i hi1) ?_
    refine lv_lconst (v := ll 0) hx hb dX12_put_22 (by decide) ?_
    refine lv_aload_n hx hb dX12_put_23 rfl (lv_at hl 1 rfl) ?_
    refine va_get (D := G) (ci := 11) (v := .ref (am 31)) (C := RX12) (T := TX12) (N := 52) hx hb hts in_X12 hown hK hP 0 (aM_0 _ _ _ _ _) rfl 49 (by decide) (hts _ q1314) (fun _ h9 => h9) rfl dX12_put_24 ?_
    refine lv_iload_n hx hb dX12_put_27 rfl (lv_at hl 2 rfl) ?_
    refine li_iald (g := (τ 49)) hx hb hK hP 31 0 (aM_31 _ _ _ _ _) rfl (by omega) (by omega) (by decide) dX12_put_28 ?_
    have r29 := hrm d1
    refine li_iconst hx hb dX12_put_29 ?_
    refine li_sub hx hb dX12_put_30 ?_
    refine lv_i2l (v := ll (τ 49 d1 - 1)) hx hb dX12_put_31 (ll_i ⟨by omega, by omega⟩) ?_
    refine kR (va_runS (As := [.long (ll (i1)), .long (ll (0)), .long (ll (τ 49 d1 - 1))]) (rest := []) ⟨hx, hb, hml, hown, hts⟩ (m_inM l G ty (wM am ty τ (up ρ 14 (sc (0))) ++ cs) i1 0 (τ 49 d1 - 1) (rg_rl hi1) ⟨by decide, by decide⟩ ⟨by omega, by omega⟩) (va_cwS 3 hts (lw_S q1436 q1437 q87 q1438) rfl rfl rfl (by decide +kernel) ⟨Nat.le_of_ble_eq_true rfl, Nat.le_of_ble_eq_true rfl⟩) (psR hK hP hD hX) rfl rfl hl.1 rfl (lv_room (Nat.le_of_ble_eq_true rfl)) dX12_put_32 ⟨Nat.le_of_ble_eq_true rfl, Nat.le_of_ble_eq_true rfl⟩) (fun v hv => ?_)
    obtain ⟨z32, rfl, ⟨rfl, h32⟩ | ⟨rfl, h32⟩⟩ := hv
    · refine li_if_ne (tgt := 41) hx hb ⟨by decide, by decide⟩ dX12_put_35 (by decide) (fun c35 => ?_) (fun c35 => ?_)
      · refine lv_aload_n hx hb dX12_put_41 rfl (lv_at hl 1 rfl) ?_
        refine va_get (D := G) (ci := 11) (v := .ref (am 32)) (C := RX12) (T := TX12) (N := 52) hx hb hts in_X12 hown hK hP 0 (aM_0 _ _ _ _ _) rfl 50 (by decide) (hts _ q1315) (fun _ h9 => h9) rfl dX12_put_42 ?_
        refine li_bipush hx hb dX12_put_45 (by decide) ?_
        refine lv_iload_n hx hb dX12_put_47 rfl (lv_at hl 2 rfl) ?_
        refine li_mul hx hb dX12_put_48 ?_
        refine lv_iload_n hx hb dX12_put_49 rfl (lv_at hl 3 rfl) ?_
        refine li_add hx hb dX12_put_50 ?_
        refine lv_iload_n hx hb dX12_put_51 rfl (lv_at hl 4 rfl) ?_
        refine lv_aload_n hx hb dX12_put_52 rfl (lv_at hl 1 rfl) ?_
        refine va_get (D := G) (ci := 11) (v := .ref (am 30)) (C := RX12) (T := TX12) (N := 52) hx hb hts in_X12 hown hK hP 0 (aM_0 _ _ _ _ _) rfl 48 (by decide) (hts _ q1313) (fun _ h9 => h9) rfl dX12_put_53 ?_
        refine lv_iload_n hx hb dX12_put_56 rfl (lv_at hl 2 rfl) ?_
        refine li_iald (g := (τ 48)) hx hb hK hP 30 0 (aM_30 _ _ _ _ _) rfl (by omega) (by omega) (by decide) dX12_put_57 ?_
        have r58 := hrs d1
        refine kR (va_runS (As := [.int (ii v1), .int (ii (τ 48 d1))]) (rest := [.int (ii (100 * d1 + i1)), .ref (am 32)]) ⟨hx, hb, hml, hown, hts⟩ (m_narrowedM l G ty (wM am ty τ (up ρ 14 (sc (0))) ++ cs) v1 (τ 48 d1) hv1 (by omega)) (va_cwS 2 hts (lw_S q1719 q1720 q87 q1721) rfl rfl rfl (by decide +kernel) ⟨Nat.le_of_ble_eq_true rfl, Nat.le_of_ble_eq_true rfl⟩) (psR hK hP hD hX) rfl rfl hl.1 rfl (lv_room (Nat.le_of_ble_eq_true rfl)) dX12_put_58 ⟨Nat.le_of_ble_eq_true rfl, Nat.le_of_ble_eq_true rfl⟩) (fun v hv => ?_)
        have hv := hv
        subst hv
        refine li_last (g := (τ 50)) (W2 := wM am ty (up τ 50 (ug (τ 50) (100 * d1 + i1) (nrw (τ 48 d1) v1))) (up ρ 14 (sc (0))) ++ cs) hx hb hK hP hD hS 32 4 (aM_32 _ _ _ _ _) rfl (by omega) (by omega) (by decide) rfl dX12_put_61 (fun H locs hP hD hS => ?_)
        refine li_iconst hx hb dX12_put_62 ?_
        exact eMi hQ hx hb hr hlk hP hD hS (Nat.le_of_ble_eq_true rfl) (Nat.le_of_ble_eq_true rfl) dX12_put_63 (⟨0, (ug (τ 50) (100 * d1 + i1) (nrw (τ 48 d1) v1)), rfl, rfl, .inr ⟨hwz, .inl ⟨by omega, rfl, rfl⟩⟩⟩)
      · exact absurd c35 (by decide)
    · refine li_if_ne (tgt := 41) hx hb ⟨by decide, by decide⟩ dX12_put_35 (by decide) (fun c35 => ?_) (fun c35 => ?_)
      · exact absurd c35 (by decide)
      · refine li_bipush hx hb dX12_put_38 (by decide) ?_
        exact eMi hQ hx hb hr hlk hP hD hS (Nat.le_of_ble_eq_true rfl) (Nat.le_of_ble_eq_true rfl) dX12_put_40 (⟨-13, (τ 50), rfl, rfl, .inr ⟨hwz, .inr ⟨by omega, rfl, rfl⟩⟩⟩)
  · refine lv_iload hx hb dX12_put_17 (lv_at hl 0 rfl) ?_
    exact eMi hQ hx hb hr hlk hP hD hS (Nat.le_of_ble_eq_true rfl) (Nat.le_of_ble_eq_true rfl) dX12_put_19 (⟨wrR (τ 46) d1, (τ 50), rfl, rfl, .inl ⟨by omega, rfl, rfl⟩⟩)
set_option maxHeartbeats 4000000 in
theorem m_copyM (l : Launch) (G : va_G) (am : Nat → Nat) (ty : Nat → ClassId) (τ ρ : mem) (cs : va_W) (d1 : Int) (i1 : Int) (e1 : Int) (j1 : Int) (n1 : Int)  (hd1 : rg d1) (hi1 : rg i1) (he1 : rg e1) (hj1 : rg j1) (hn1_ : rg n1) (hh : ∀ i, 0 ≤ (τ 46) i ∧ (τ 46) i ≤ 2) (hrs : ∀ i, 0 ≤ (τ 48) i ∧ (τ 48) i ≤ 2) (hrm : ∀ i, 0 ≤ (τ 49) i ∧ (τ 49) i ≤ 100) : cM l yX12_copy (ws_ yX12_copy cX12_copy 7 (some .int)) (rm4 1 0 0 25) G ty (wM am ty τ ρ ++ cs) [.ref (am 0), .int (ii d1), .int (ii i1), .int (ii e1), .int (ii j1), .int (ii n1)] 0 0 (fun r W' => ∃ (z : Int) (w : Int → Int) (b : Int → Int), r = some (.int (ii z)) ∧ W' = wM am ty (up τ 50 w) (up (up ρ 14 (sc (0))) 51 b) ++ cs ∧ ((((0 ≤ d1 ∧ d1 ≤ 7) ∧ 0 ≤ e1 ∧ e1 ≤ 7) ∧ (¬ ((τ 46) d1 = 0 ∨ (τ 46) e1 = 0)) ∧ ((τ 46) d1 = 2 ∧ (τ 46) e1 = 2 ∧ (τ 48) d1 = (τ 48) e1) ∧ (0 ≤ n1 ∧ 0 ≤ i1 ∧ 0 ≤ j1 ∧ i1 ≤ (τ 49) d1 - n1 ∧ j1 ≤ (τ 49) e1 - n1) ∧ z = n1 ∧ w = mvr (τ 50) (τ 50) (100 * d1 + i1) (100 * e1 + j1) n1) ∨ (((¬ ((0 ≤ d1 ∧ d1 ≤ 7) ∧ 0 ≤ e1 ∧ e1 ≤ 7) ∧ z = -1) ∨ (((0 ≤ d1 ∧ d1 ≤ 7) ∧ 0 ≤ e1 ∧ e1 ≤ 7) ∧ ¬ (¬ ((τ 46) d1 = 0 ∨ (τ 46) e1 = 0)) ∧ z = -11) ∨ (((0 ≤ d1 ∧ d1 ≤ 7) ∧ 0 ≤ e1 ∧ e1 ≤ 7) ∧ (¬ ((τ 46) d1 = 0 ∨ (τ 46) e1 = 0)) ∧ ¬ ((τ 46) d1 = 2 ∧ (τ 46) e1 = 2 ∧ (τ 48) d1 = (τ 48) e1) ∧ z = -12) ∨ (((0 ≤ d1 ∧ d1 ≤ 7) ∧ 0 ≤ e1 ∧ e1 ≤ 7) ∧ (¬ ((τ 46) d1 = 0 ∨ (τ 46) e1 = 0)) ∧ ((τ 46) d1 = 2 ∧ (τ 46) e1 = 2 ∧ (τ 48) d1 = (τ 48) e1) ∧ ¬ (0 ≤ n1 ∧ 0 ≤ i1 ∧ 0 ≤ j1 ∧ i1 ≤ (τ 49) d1 - n1 ∧ j1 ≤ (τ 49) e1 - n1) ∧ z = -13)) ∧ w = (τ 50)))) := by
  refine cM.of (by decide) (Nat.le_of_ble_eq_true rfl) ?_
  intro p e s m args below meth c A Q H locs hQ hx hb hr hml hown hlk hname hts hK hP hD hS hA hX ls hl
  have hl : lv_has ls 7 [(0, .ref (am 0)), (1, .int (ii d1)), (2, .int (ii i1)), (3, .int (ii e1)), (4, .int (ii j1)), (5, .int (ii n1))] := hl
  obtain ⟨hd1a, hd1b⟩ := id hd1
  obtain ⟨hi1a, hi1b⟩ := id hi1
  obtain ⟨he1a, he1b⟩ := id he1
  obtain ⟨hj1a, hj1b⟩ := id hj1
  obtain ⟨hn1_a, hn1_b⟩ := id hn1_
  refine lv_aload_n hx hb dX12_copy_0 rfl (lv_at hl 0 rfl) ?_
  refine li_iconst hx hb dX12_copy_1 ?_
  refine va_put (D := G) (ci := 11) (v := .int (ii 0)) (ty := .int) (C := RX12) (T := TX12) (N := 52) hx hb hts in_X12 tyX12 tyX12_ok nmX12 hown hK hP hD hS 0 (aM_0 _ _ _ _ _) rfl 14 (by decide) (hts _ q1279) (fun _ h9 => h9) rfl (tyX12_ok 14 (by decide)) rfl rfl (Nat.le_of_ble_eq_true rfl) dX12_copy_2 (fun H locs hP hD hS => ?_)
  have hP : va_P G gcl (wM am ty τ (up ρ 14 (sc (0))) ++ cs) H := hP
  have hD : va_D A (wM am ty τ (up ρ 14 (sc (0))) ++ cs) := hD
  refine lv_iload_n hx hb dX12_copy_5 rfl (lv_at hl 1 rfl) ?_
  refine lv_i2l (v := ll d1) hx hb dX12_copy_6 (ll_i hd1) ?_
  refine lv_lconst (v := ll 0) hx hb dX12_copy_7 (by decide) ?_
  refine lv_ldc2 (v := ll 7) hx hb hown (hts _ q1435) dX12_copy_8 ?_
  refine kR (va_runS (As := [.long (ll (d1)), .long (ll (0)), .long (ll (7))]) (rest := []) ⟨hx, hb, hml, hown, hts⟩ (m_inM l G ty (wM am ty τ (up ρ 14 (sc (0))) ++ cs) d1 0 7 (rg_rl hd1) ⟨by decide, by decide⟩ ⟨by decide, by decide⟩) (va_cwS 3 hts (lw_S q1436 q1437 q87 q1438) rfl rfl rfl (by decide +kernel) ⟨Nat.le_of_ble_eq_true rfl, Nat.le_of_ble_eq_true rfl⟩) (psR hK hP hD hX) rfl rfl hl.1 rfl (lv_room (Nat.le_of_ble_eq_true rfl)) dX12_copy_11 ⟨Nat.le_of_ble_eq_true rfl, Nat.le_of_ble_eq_true rfl⟩) (fun v hv => ?_)
  obtain ⟨z11, rfl, ⟨rfl, h11⟩ | ⟨rfl, h11⟩⟩ := hv
  · refine li_if_eq (tgt := 29) hx hb ⟨by decide, by decide⟩ dX12_copy_14 (by decide) (fun c14 => ?_) (fun c14 => ?_)
    · exact absurd c14 (by decide)
    · refine lv_iload_n hx hb dX12_copy_17 rfl (lv_at hl 3 rfl) ?_
      refine lv_i2l (v := ll e1) hx hb dX12_copy_18 (ll_i he1) ?_
      refine lv_lconst (v := ll 0) hx hb dX12_copy_19 (by decide) ?_
      refine lv_ldc2 (v := ll 7) hx hb hown (hts _ q1435) dX12_copy_20 ?_
      refine kR (va_runS (As := [.long (ll (e1)), .long (ll (0)), .long (ll (7))]) (rest := []) ⟨hx, hb, hml, hown, hts⟩ (m_inM l G ty (wM am ty τ (up ρ 14 (sc (0))) ++ cs) e1 0 7 (rg_rl he1) ⟨by decide, by decide⟩ ⟨by decide, by decide⟩) (va_cwS 3 hts (lw_S q1436 q1437 q87 q1438) rfl rfl rfl (by decide +kernel) ⟨Nat.le_of_ble_eq_true rfl, Nat.le_of_ble_eq_true rfl⟩) (psR hK hP hD hX) rfl rfl hl.1 rfl (lv_room (Nat.le_of_ble_eq_true rfl)) dX12_copy_23 ⟨Nat.le_of_ble_eq_true rfl, Nat.le_of_ble_eq_true rfl⟩) (fun v hv => ?_)
      obtain ⟨z23, rfl, ⟨rfl, h23⟩ | ⟨rfl, h23⟩⟩ := hv
      · refine li_if_ne (tgt := 31) hx hb ⟨by decide, by decide⟩ dX12_copy_26 (by decide) (fun c26 => ?_) (fun c26 => ?_)
        · refine lv_aload_n hx hb dX12_copy_31 rfl (lv_at hl 0 rfl) ?_
          refine va_get (D := G) (ci := 11) (v := .ref (am 28)) (C := RX12) (T := TX12) (N := 52) hx hb hts in_X12 hown hK hP 0 (aM_0 _ _ _ _ _) rfl 46 (by decide) (hts _ q1311) (fun _ h9 => h9) rfl dX12_copy_32 ?_
          refine lv_iload_n hx hb dX12_copy_35 rfl (lv_at hl 1 rfl) ?_
          refine li_iald (g := (τ 46)) hx hb hK hP 28 0 (aM_28 _ _ _ _ _) rfl (by omega) (by omega) (by decide) dX12_copy_36 ?_
          have r37 := hh d1
          refine li_if_eq (tgt := 49) hx hb (rgi r37.1 r37.2) dX12_copy_37 (by decide) (fun c37 => ?_) (fun c37 => ?_)
          · refine li_bipush hx hb dX12_copy_49 (by decide) ?_
            exact eMi hQ hx hb hr hlk hP hD hS (Nat.le_of_ble_eq_true rfl) (Nat.le_of_ble_eq_true rfl) dX12_copy_51 (⟨-11, (τ 50), (ρ 51), rfl, rfl, .inr ⟨by omega, rfl⟩⟩)
          · refine lv_aload_n hx hb dX12_copy_40 rfl (lv_at hl 0 rfl) ?_
            refine va_get (D := G) (ci := 11) (v := .ref (am 28)) (C := RX12) (T := TX12) (N := 52) hx hb hts in_X12 hown hK hP 0 (aM_0 _ _ _ _ _) rfl 46 (by decide) (hts _ q1311) (fun _ h9 => h9) rfl dX12_copy_41 ?_
            refine lv_iload_n hx hb dX12_copy_44 rfl (lv_at hl 3 rfl) ?_
            refine li_iald (g := (τ 46)) hx hb hK hP 28 0 (aM_28 _ _ _ _ _) rfl (by omega) (by omega) (by decide) dX12_copy_45 ?_
            have r46 := hh e1
            refine li_if_ne (tgt := 52) hx hb (rgi r46.1 r46.2) dX12_copy_46 (by decide) (fun c46 => ?_) (fun c46 => ?_)
            · refine lv_aload_n hx hb dX12_copy_52 rfl (lv_at hl 0 rfl) ?_
              refine va_get (D := G) (ci := 11) (v := .ref (am 28)) (C := RX12) (T := TX12) (N := 52) hx hb hts in_X12 hown hK hP 0 (aM_0 _ _ _ _ _) rfl 46 (by decide) (hts _ q1311) (fun _ h9 => h9) rfl dX12_copy_53 ?_
              refine lv_iload_n hx hb dX12_copy_56 rfl (lv_at hl 1 rfl) ?_
              refine li_iald (g := (τ 46)) hx hb hK hP 28 0 (aM_28 _ _ _ _ _) rfl (by omega) (by omega) (by decide) dX12_copy_57 ?_
              have r58 := hh d1
              refine li_iconst hx hb dX12_copy_58 ?_
              refine li_icmp_ne (tgt := 87) hx hb (rgi r58.1 r58.2) ⟨by decide, by decide⟩ dX12_copy_59 (by decide) (fun c59 => ?_) (fun c59 => ?_)
              · refine li_bipush hx hb dX12_copy_87 (by decide) ?_
                exact eMi hQ hx hb hr hlk hP hD hS (Nat.le_of_ble_eq_true rfl) (Nat.le_of_ble_eq_true rfl) dX12_copy_89 (⟨-12, (τ 50), (ρ 51), rfl, rfl, .inr ⟨by omega, rfl⟩⟩)
              · refine lv_aload_n hx hb dX12_copy_62 rfl (lv_at hl 0 rfl) ?_
                refine va_get (D := G) (ci := 11) (v := .ref (am 28)) (C := RX12) (T := TX12) (N := 52) hx hb hts in_X12 hown hK hP 0 (aM_0 _ _ _ _ _) rfl 46 (by decide) (hts _ q1311) (fun _ h9 => h9) rfl dX12_copy_63 ?_
                refine lv_iload_n hx hb dX12_copy_66 rfl (lv_at hl 3 rfl) ?_
                refine li_iald (g := (τ 46)) hx hb hK hP 28 0 (aM_28 _ _ _ _ _) rfl (by omega) (by omega) (by decide) dX12_copy_67 ?_
                have r68 := hh e1
                refine li_iconst hx hb dX12_copy_68 ?_
                refine li_icmp_ne (tgt := 87) hx hb (rgi r68.1 r68.2) ⟨by decide, by decide⟩ dX12_copy_69 (by decide) (fun c69 => ?_) (fun c69 => ?_)
                · refine li_bipush hx hb dX12_copy_87 (by decide) ?_
                  exact eMi hQ hx hb hr hlk hP hD hS (Nat.le_of_ble_eq_true rfl) (Nat.le_of_ble_eq_true rfl) dX12_copy_89 (⟨-12, (τ 50), (ρ 51), rfl, rfl, .inr ⟨by omega, rfl⟩⟩)
                · refine lv_aload_n hx hb dX12_copy_72 rfl (lv_at hl 0 rfl) ?_
                  refine va_get (D := G) (ci := 11) (v := .ref (am 30)) (C := RX12) (T := TX12) (N := 52) hx hb hts in_X12 hown hK hP 0 (aM_0 _ _ _ _ _) rfl 48 (by decide) (hts _ q1313) (fun _ h9 => h9) rfl dX12_copy_73 ?_
                  refine lv_iload_n hx hb dX12_copy_76 rfl (lv_at hl 1 rfl) ?_
                  refine li_iald (g := (τ 48)) hx hb hK hP 30 0 (aM_30 _ _ _ _ _) rfl (by omega) (by omega) (by decide) dX12_copy_77 ?_
                  have r78 := hrs d1
                  refine lv_aload_n hx hb dX12_copy_78 rfl (lv_at hl 0 rfl) ?_
                  refine va_get (D := G) (ci := 11) (v := .ref (am 30)) (C := RX12) (T := TX12) (N := 52) hx hb hts in_X12 hown hK hP 0 (aM_0 _ _ _ _ _) rfl 48 (by decide) (hts _ q1313) (fun _ h9 => h9) rfl dX12_copy_79 ?_
                  refine lv_iload_n hx hb dX12_copy_82 rfl (lv_at hl 3 rfl) ?_
                  refine li_iald (g := (τ 48)) hx hb hK hP 30 0 (aM_30 _ _ _ _ _) rfl (by omega) (by omega) (by decide) dX12_copy_83 ?_
                  have r84 := hrs e1
                  refine li_icmp_eq (tgt := 90) hx hb (rgi r78.1 r78.2) (rgi r84.1 r84.2) dX12_copy_84 (by decide) (fun c84 => ?_) (fun c84 => ?_)
                  · have hmd := hrm d1
                    have hme := hrm e1
                    refine lv_iload hx hb dX12_copy_90 (lv_at hl 5 rfl) ?_
                    refine li_if_lt (tgt := 131) hx hb hn1_ dX12_copy_92 (by decide) (fun c92 => ?_) (fun c92 => ?_)
                    · refine li_bipush hx hb dX12_copy_131 (by decide) ?_
                      exact eMi hQ hx hb hr hlk hP hD hS (Nat.le_of_ble_eq_true rfl) (Nat.le_of_ble_eq_true rfl) dX12_copy_133 (⟨-13, (τ 50), (ρ 51), rfl, rfl, .inr ⟨by omega, rfl⟩⟩)
                    · refine lv_iload_n hx hb dX12_copy_95 rfl (lv_at hl 2 rfl) ?_
                      refine li_if_lt (tgt := 131) hx hb hi1 dX12_copy_96 (by decide) (fun c96 => ?_) (fun c96 => ?_)
                      · refine li_bipush hx hb dX12_copy_131 (by decide) ?_
                        exact eMi hQ hx hb hr hlk hP hD hS (Nat.le_of_ble_eq_true rfl) (Nat.le_of_ble_eq_true rfl) dX12_copy_133 (⟨-13, (τ 50), (ρ 51), rfl, rfl, .inr ⟨by omega, rfl⟩⟩)
                      · refine lv_iload hx hb dX12_copy_99 (lv_at hl 4 rfl) ?_
                        refine li_if_lt (tgt := 131) hx hb hj1 dX12_copy_101 (by decide) (fun c101 => ?_) (fun c101 => ?_)
                        · refine li_bipush hx hb dX12_copy_131 (by decide) ?_
                          exact eMi hQ hx hb hr hlk hP hD hS (Nat.le_of_ble_eq_true rfl) (Nat.le_of_ble_eq_true rfl) dX12_copy_133 (⟨-13, (τ 50), (ρ 51), rfl, rfl, .inr ⟨by omega, rfl⟩⟩)
                        · refine lv_iload_n hx hb dX12_copy_104 rfl (lv_at hl 2 rfl) ?_
                          refine lv_aload_n hx hb dX12_copy_105 rfl (lv_at hl 0 rfl) ?_
                          refine va_get (D := G) (ci := 11) (v := .ref (am 31)) (C := RX12) (T := TX12) (N := 52) hx hb hts in_X12 hown hK hP 0 (aM_0 _ _ _ _ _) rfl 49 (by decide) (hts _ q1314) (fun _ h9 => h9) rfl dX12_copy_106 ?_
                          refine lv_iload_n hx hb dX12_copy_109 rfl (lv_at hl 1 rfl) ?_
                          refine li_iald (g := (τ 49)) hx hb hK hP 31 0 (aM_31 _ _ _ _ _) rfl (by omega) (by omega) (by decide) dX12_copy_110 ?_
                          have r111 := hrm d1
                          refine lv_iload hx hb dX12_copy_111 (lv_at hl 5 rfl) ?_
                          refine li_sub hx hb dX12_copy_113 ?_
                          refine li_icmp_gt (tgt := 131) hx hb hi1 ⟨by omega, by omega⟩ dX12_copy_114 (by decide) (fun c114 => ?_) (fun c114 => ?_)
                          · refine li_bipush hx hb dX12_copy_131 (by decide) ?_
                            exact eMi hQ hx hb hr hlk hP hD hS (Nat.le_of_ble_eq_true rfl) (Nat.le_of_ble_eq_true rfl) dX12_copy_133 (⟨-13, (τ 50), (ρ 51), rfl, rfl, .inr ⟨by omega, rfl⟩⟩)
                          · refine lv_iload hx hb dX12_copy_117 (lv_at hl 4 rfl) ?_
                            refine lv_aload_n hx hb dX12_copy_119 rfl (lv_at hl 0 rfl) ?_
                            refine va_get (D := G) (ci := 11) (v := .ref (am 31)) (C := RX12) (T := TX12) (N := 52) hx hb hts in_X12 hown hK hP 0 (aM_0 _ _ _ _ _) rfl 49 (by decide) (hts _ q1314) (fun _ h9 => h9) rfl dX12_copy_120 ?_
                            refine lv_iload_n hx hb dX12_copy_123 rfl (lv_at hl 3 rfl) ?_
                            refine li_iald (g := (τ 49)) hx hb hK hP 31 0 (aM_31 _ _ _ _ _) rfl (by omega) (by omega) (by decide) dX12_copy_124 ?_
                            have r125 := hrm e1
                            refine lv_iload hx hb dX12_copy_125 (lv_at hl 5 rfl) ?_
                            refine li_sub hx hb dX12_copy_127 ?_
                            refine li_icmp_le (tgt := 134) hx hb hj1 ⟨by omega, by omega⟩ dX12_copy_128 (by decide) (fun c128 => ?_) (fun c128 => ?_)
                            · refine li_iconst hx hb dX12_copy_134 ?_
                              refine lv_istore (lv' := [(6, .int (ii 0)), (0, .ref (am 0)), (1, .int (ii d1)), (2, .int (ii i1)), (3, .int (ii e1)), (4, .int (ii j1)), (5, .int (ii n1))]) hx hb dX12_copy_135 hl (by decide) rfl (fun ls hl => ?_)
                              have X137 : ∀ (k1 : Int) (b1 : Int → Int) (_ : ∀ x, 0 ≤ x → x < n1 → b1 x = τ 50 (100 * d1 + i1 + x)) (H : Heap) (locs : List Loc) (_ : va_P G gcl (wM am ty τ (up (up ρ 14 (sc (0))) 51 b1) ++ cs) H) (_ : va_D A (wM am ty τ (up (up ρ 14 (sc (0))) 51 b1) ++ cs)) (_ : va_S A s.heap H locs) (ls : Array Slot), lv_has ls 7 [(0, .ref (am 0)), (1, .int (ii d1)), (2, .int (ii i1)), (3, .int (ii e1)), (4, .int (ii j1)), (5, .int (ii n1))] → W p l e (rm4 1 0 0 25) s m args below meth c H locs 0 0 Q (F0 m 171 ls []) := by
                                intro k1 b1 hb2 H locs hP hD hS ls hl
                                refine li_iconst hx hb dX12_copy_171 ?_
                                refine lv_istore (lv' := [(6, .int (ii 0)), (0, .ref (am 0)), (1, .int (ii d1)), (2, .int (ii i1)), (3, .int (ii e1)), (4, .int (ii j1)), (5, .int (ii n1))]) hx hb dX12_copy_172 hl (by decide) rfl (fun ls hl => ?_)
                                have L174 : ∀ (n : Nat) (k1 : Int) (W1 : Int → Int) (_ : 0 ≤ k1) (_ : k1 ≤ n1) (_ : W1 = mvr (τ 50) (τ 50) (100 * d1 + i1) (100 * e1 + j1) k1) (_ : (n1 - k1).toNat < n) (H : Heap) (locs : List Loc) (_ : va_P G gcl (wM am ty (up τ 50 W1) (up (up ρ 14 (sc (0))) 51 b1) ++ cs) H) (_ : va_D A (wM am ty (up τ 50 W1) (up (up ρ 14 (sc (0))) 51 b1) ++ cs)) (_ : va_S A s.heap H locs) (ls : Array Slot), lv_has ls 7 [(6, .int (ii k1)), (0, .ref (am 0)), (1, .int (ii d1)), (2, .int (ii i1)), (3, .int (ii e1)), (4, .int (ii j1)), (5, .int (ii n1))] → W p l e (rm4 1 0 0 25) s m args below meth c H locs 0 0 Q (F0 m 174 ls []) := by
                                  intro n
                                  induction n with
                                  | zero =>
                                    intro k1 W1 hk0 hk1 hw hm
                                    exact absurd hm (Nat.not_lt_zero _)
                                  | succ n ih =>
                                    intro k1 W1 hk0 hk1 hw hm H locs hP hD hS ls hl
                                    refine lv_iload hx hb dX12_copy_174 (lv_at hl 0 rfl) ?_
                                    refine lv_iload hx hb dX12_copy_176 (lv_at hl 6 rfl) ?_
                                    refine li_icmp_ge (tgt := 209) hx hb ⟨by omega, by omega⟩ hn1_ dX12_copy_178 (by decide) (fun c178 => ?_) (fun c178 => ?_)
                                    · refine lv_iload hx hb dX12_copy_209 (lv_at hl 6 rfl) ?_
                                      exact eMi hQ hx hb hr hlk hP hD hS (Nat.le_of_ble_eq_true rfl) (Nat.le_of_ble_eq_true rfl) dX12_copy_211 (⟨n1, W1, b1, rfl, rfl, .inl ⟨by omega, by omega, by omega, by omega, rfl, by rw [hw, show k1 = n1 by omega]⟩⟩)
                                    · refine lv_aload_n hx hb dX12_copy_181 rfl (lv_at hl 1 rfl) ?_
                                      refine va_get (D := G) (ci := 11) (v := .ref (am 32)) (C := RX12) (T := TX12) (N := 52) hx hb hts in_X12 hown hK hP 0 (aM_0 _ _ _ _ _) rfl 50 (by decide) (hts _ q1315) (fun _ h9 => h9) rfl dX12_copy_182 ?_
                                      refine li_bipush hx hb dX12_copy_185 (by decide) ?_
                                      refine lv_iload_n hx hb dX12_copy_187 rfl (lv_at hl 4 rfl) ?_
                                      refine li_mul hx hb dX12_copy_188 ?_
                                      refine lv_iload hx hb dX12_copy_189 (lv_at hl 5 rfl) ?_
                                      refine li_add hx hb dX12_copy_191 ?_
                                      refine lv_iload hx hb dX12_copy_192 (lv_at hl 0 rfl) ?_
                                      refine li_add hx hb dX12_copy_194 ?_
                                      refine lv_aload_n hx hb dX12_copy_195 rfl (lv_at hl 1 rfl) ?_
                                      refine va_get (D := G) (ci := 11) (v := .ref (am 33)) (C := RX12) (T := TX12) (N := 52) hx hb hts in_X12 hown hK hP 0 (aM_0 _ _ _ _ _) rfl 51 (by decide) (hts _ q1316) (fun _ h9 => h9) rfl dX12_copy_196 ?_
                                      refine lv_iload hx hb dX12_copy_199 (lv_at hl 0 rfl) ?_
                                      refine li_lald (g := b1) hx hb hK hP 33 4 (aM_33 _ _ _ _ _) rfl (by omega) (by omega) (by decide) dX12_copy_201 ?_
                                      refine li_last (g := W1) (W2 := wM am ty (up τ 50 (ug W1 (100 * e1 + j1 + k1) (b1 k1))) (up (up ρ 14 (sc (0))) 51 b1) ++ cs) hx hb hK hP hD hS 32 4 (aM_32 _ _ _ _ _) rfl (by omega) (by omega) (by decide) rfl dX12_copy_202 (fun H locs hP hD hS => ?_)
                                      refine li_iinc (a := k1) (lv' := [(6, .int (ii (k1 + 1))), (0, .ref (am 0)), (1, .int (ii d1)), (2, .int (ii i1)), (3, .int (ii e1)), (4, .int (ii j1)), (5, .int (ii n1))]) hx hb dX12_copy_203 hl (k := 0) rfl (by decide) rfl (fun ls hl => ?_)
                                      refine lv_goto (tgt := 174) hx hb dX12_copy_206 (by decide) ?_
                                      exact ih (k1 + 1) (ug W1 (100 * e1 + j1 + k1) (b1 k1)) (by omega) (by omega) (by rw [hw, hb2 k1 hk0 (by omega)]; exact mvr_s hk0) (by omega) H locs hP hD hS ls (lv_sub hl [0, 1, 2, 3, 4, 5, 6] rfl)
                                exact L174 _ 0 (τ 50) (by omega) (by omega) ((mvr_0 _ _ _ _).symm) (Nat.lt_succ_self _) H locs hP hD hS ls (lv_sub hl [0, 1, 2, 3, 4, 5, 6] rfl)
                              have L137 : ∀ (n : Nat) (k1 : Int) (b1 : Int → Int) (_ : 0 ≤ k1) (_ : k1 ≤ n1) (_ : ∀ x, 0 ≤ x → x < k1 → b1 x = τ 50 (100 * d1 + i1 + x)) (_ : (n1 - k1).toNat < n) (H : Heap) (locs : List Loc) (_ : va_P G gcl (wM am ty τ (up (up ρ 14 (sc (0))) 51 b1) ++ cs) H) (_ : va_D A (wM am ty τ (up (up ρ 14 (sc (0))) 51 b1) ++ cs)) (_ : va_S A s.heap H locs) (ls : Array Slot), lv_has ls 7 [(6, .int (ii k1)), (0, .ref (am 0)), (1, .int (ii d1)), (2, .int (ii i1)), (3, .int (ii e1)), (4, .int (ii j1)), (5, .int (ii n1))] → W p l e (rm4 1 0 0 25) s m args below meth c H locs 0 0 Q (F0 m 137 ls []) := by
                                intro n
                                induction n with
                                | zero =>
                                  intro k1 b1 hk0 hk1 hb1 hm
                                  exact absurd hm (Nat.not_lt_zero _)
                                | succ n ih =>
                                  intro k1 b1 hk0 hk1 hb1 hm H locs hP hD hS ls hl
                                  refine lv_iload hx hb dX12_copy_137 (lv_at hl 0 rfl) ?_
                                  refine lv_iload hx hb dX12_copy_139 (lv_at hl 6 rfl) ?_
                                  refine li_icmp_ge (tgt := 171) hx hb ⟨by omega, by omega⟩ hn1_ dX12_copy_141 (by decide) (fun c141 => ?_) (fun c141 => ?_)
                                  · exact X137 k1 b1 (fun x a b => hb1 x a (by omega)) H locs hP hD hS ls (lv_sub hl [1, 2, 3, 4, 5, 6] rfl)
                                  · refine lv_aload_n hx hb dX12_copy_144 rfl (lv_at hl 1 rfl) ?_
                                    refine va_get (D := G) (ci := 11) (v := .ref (am 33)) (C := RX12) (T := TX12) (N := 52) hx hb hts in_X12 hown hK hP 0 (aM_0 _ _ _ _ _) rfl 51 (by decide) (hts _ q1316) (fun _ h9 => h9) rfl dX12_copy_145 ?_
                                    refine lv_iload hx hb dX12_copy_148 (lv_at hl 0 rfl) ?_
                                    refine lv_aload_n hx hb dX12_copy_150 rfl (lv_at hl 1 rfl) ?_
                                    refine va_get (D := G) (ci := 11) (v := .ref (am 32)) (C := RX12) (T := TX12) (N := 52) hx hb hts in_X12 hown hK hP 0 (aM_0 _ _ _ _ _) rfl 50 (by decide) (hts _ q1315) (fun _ h9 => h9) rfl dX12_copy_151 ?_
                                    refine li_bipush hx hb dX12_copy_154 (by decide) ?_
                                    refine lv_iload_n hx hb dX12_copy_156 rfl (lv_at hl 2 rfl) ?_
                                    refine li_mul hx hb dX12_copy_157 ?_
                                    refine lv_iload_n hx hb dX12_copy_158 rfl (lv_at hl 3 rfl) ?_
                                    refine li_add hx hb dX12_copy_159 ?_
                                    refine lv_iload hx hb dX12_copy_160 (lv_at hl 0 rfl) ?_
                                    refine li_add hx hb dX12_copy_162 ?_
                                    refine li_lald (g := (τ 50)) hx hb hK hP 32 4 (aM_32 _ _ _ _ _) rfl (by omega) (by omega) (by decide) dX12_copy_163 ?_
                                    refine li_last (g := b1) (W2 := wM am ty τ (up (up ρ 14 (sc (0))) 51 (ug b1 k1 (τ 50 (100 * d1 + i1 + k1)))) ++ cs) hx hb hK hP hD hS 33 4 (aM_33 _ _ _ _ _) rfl (by omega) (by omega) (by decide) rfl dX12_copy_164 (fun H locs hP hD hS => ?_)
                                    refine li_iinc (a := k1) (lv' := [(6, .int (ii (k1 + 1))), (0, .ref (am 0)), (1, .int (ii d1)), (2, .int (ii i1)), (3, .int (ii e1)), (4, .int (ii j1)), (5, .int (ii n1))]) hx hb dX12_copy_165 hl (k := 0) rfl (by decide) rfl (fun ls hl => ?_)
                                    refine lv_goto (tgt := 137) hx hb dX12_copy_168 (by decide) ?_
                                    exact ih (k1 + 1) (ug b1 k1 (τ 50 (100 * d1 + i1 + k1))) (by omega) (by omega) (cpx_s hb1) (by omega) H locs hP hD hS ls (lv_sub hl [0, 1, 2, 3, 4, 5, 6] rfl)
                              exact L137 _ 0 (ρ 51) (by omega) (by omega) (fun x a b => by omega) (Nat.lt_succ_self _) H locs hP hD hS ls (lv_sub hl [0, 1, 2, 3, 4, 5, 6] rfl)
                            · refine li_bipush hx hb dX12_copy_131 (by decide) ?_
                              exact eMi hQ hx hb hr hlk hP hD hS (Nat.le_of_ble_eq_true rfl) (Nat.le_of_ble_eq_true rfl) dX12_copy_133 (⟨-13, (τ 50), (ρ 51), rfl, rfl, .inr ⟨by omega, rfl⟩⟩)
                  · refine li_bipush hx hb dX12_copy_87 (by decide) ?_
                    exact eMi hQ hx hb hr hlk hP hD hS (Nat.le_of_ble_eq_true rfl) (Nat.le_of_ble_eq_true rfl) dX12_copy_89 (⟨-12, (τ 50), (ρ 51), rfl, rfl, .inr ⟨by omega, rfl⟩⟩)
            · refine li_bipush hx hb dX12_copy_49 (by decide) ?_
              exact eMi hQ hx hb hr hlk hP hD hS (Nat.le_of_ble_eq_true rfl) (Nat.le_of_ble_eq_true rfl) dX12_copy_51 (⟨-11, (τ 50), (ρ 51), rfl, rfl, .inr ⟨by omega, rfl⟩⟩)
        · exact absurd c26 (by decide)
      · refine li_if_ne (tgt := 31) hx hb ⟨by decide, by decide⟩ dX12_copy_26 (by decide) (fun c26 => ?_) (fun c26 => ?_)
        · exact absurd c26 (by decide)
        · refine li_iconst hx hb dX12_copy_29 ?_
          exact eMi hQ hx hb hr hlk hP hD hS (Nat.le_of_ble_eq_true rfl) (Nat.le_of_ble_eq_true rfl) dX12_copy_30 (⟨-1, (τ 50), (ρ 51), rfl, rfl, .inr ⟨by omega, rfl⟩⟩)
  · refine li_if_eq (tgt := 29) hx hb ⟨by decide, by decide⟩ dX12_copy_14 (by decide) (fun c14 => ?_) (fun c14 => ?_)
    · refine li_iconst hx hb dX12_copy_29 ?_
      exact eMi hQ hx hb hr hlk hP hD hS (Nat.le_of_ble_eq_true rfl) (Nat.le_of_ble_eq_true rfl) dX12_copy_30 (⟨-1, (τ 50), (ρ 51), rfl, rfl, .inr ⟨by omega, rfl⟩⟩)
    · exact absurd c14 (by decide)
set_option maxHeartbeats 4000000 in
theorem m_effortM (l : Launch) (G : va_G) (am : Nat → Nat) (ty : Nat → ClassId) (τ ρ : mem) (cs : va_W) (d1 : Int) (F : mem) (hF : okF F) (hSm : Sim F τ) (hd1 : rg d1) (hh : ∀ i, 0 ≤ (τ 46) i ∧ (τ 46) i ≤ 2) (hmo : ∀ i, 0 ≤ i → i ≤ 7 → (τ 46) i = 1 → isT ((τ 47) i)) : cM l yX12_effort (ws_ yX12_effort cX12_effort 6 (some .int)) (rm4 2 0 0 46) G ty (wM am ty τ ρ ++ cs) [.ref (am 0), .int (ii d1)] 0 0 (fun r W' => ∃ (z : Int), r = some (.int (ii z)) ∧ W' = wM am ty τ (up ρ 14 (sc (0))) ++ cs ∧ ((wrS (τ 46) d1 < 0 ∧ z = wrS (τ 46) d1) ∨ (wrS (τ 46) d1 = 0 ∧ z = efV F ((τ 47) d1 / 10000) ((τ 47) d1 / 1000 % 10) ((τ 47) d1 / 10 % 10) ((τ 47) d1 % 10)))) := by
  refine cM.of (by decide) (Nat.le_of_ble_eq_true rfl) ?_
  intro p e s m args below meth c A Q H locs hQ hx hb hr hml hown hlk hname hts hK hP hD hS hA hX ls hl
  have hl : lv_has ls 6 [(0, .ref (am 0)), (1, .int (ii d1))] := hl
  obtain ⟨hW, hWS, hlg⟩ := id hF
  obtain ⟨hw0, hw1, hw2, hw3, hw4, hw5, h8a, h8b, h9a, h9b, h10a, h10b⟩ := id hW
  obtain ⟨mL, mP, mR, mC, mK, mM, mA, mB, mD⟩ := id hSm
  obtain ⟨hd1a, hd1b⟩ := id hd1
  refine lv_aload_n hx hb dX12_effort_0 rfl (lv_at hl 0 rfl) ?_
  refine li_iconst hx hb dX12_effort_1 ?_
  refine va_put (D := G) (ci := 11) (v := .int (ii 0)) (ty := .int) (C := RX12) (T := TX12) (N := 52) hx hb hts in_X12 tyX12 tyX12_ok nmX12 hown hK hP hD hS 0 (aM_0 _ _ _ _ _) rfl 14 (by decide) (hts _ q1279) (fun _ h9 => h9) rfl (tyX12_ok 14 (by decide)) rfl rfl (Nat.le_of_ble_eq_true rfl) dX12_effort_2 (fun H locs hP hD hS => ?_)
  have hP : va_P G gcl (wM am ty τ (up ρ 14 (sc (0))) ++ cs) H := hP
  have hD : va_D A (wM am ty τ (up ρ 14 (sc (0))) ++ cs) := hD
  refine lv_aload_n hx hb dX12_effort_5 rfl (lv_at hl 0 rfl) ?_
  refine lv_iload_n hx hb dX12_effort_6 rfl (lv_at hl 1 rfl) ?_
  refine kR (va_runV (As := [.int (ii d1)]) (rest := []) ⟨hx, hb, hml, hown, hts⟩ (m_wrongShelfM l G am ty τ (up ρ 14 (sc (0))) cs d1 (show rg d1 from hd1) (show ∀ i, 0 ≤ (τ 46) i ∧ (τ 46) i ≤ 2 from hh)) (cwV 1 hts (lw_V q1734 q1736 qs74 q87 q1737) rfl rfl rfl (by decide +kernel) ⟨Nat.le_of_ble_eq_true rfl, Nat.le_of_ble_eq_true rfl⟩) (pvR (r := (RX12, TX12, 52)) hK hP hD hX 0 (aM_0 _ _ _ _ _) rfl) rfl rfl hl.1 rfl (lv_room (Nat.le_of_ble_eq_true rfl)) dX12_effort_7 ⟨Nat.le_of_ble_eq_true rfl, Nat.le_of_ble_eq_true rfl⟩) (fun v hv => ?_)
  obtain ⟨rfl, hz7⟩ := hv
  have hz7 : -12 ≤ wrS (τ 46) d1 ∧ wrS (τ 46) d1 ≤ 0 := hz7
  refine li_top (b := (wrS (τ 46) d1)) rfl ?_
  refine li_if_ge (tgt := 19) hx hb ⟨Int.le_trans (by decide) hz7.1, Int.le_trans hz7.2 (by decide)⟩ dX12_effort_10 (by decide) (fun c10 => ?_) (fun c10 => ?_)
  · have hw0 := wrS_0 c10
    have hwz : wrS (τ 46) d1 = 0 := by omega
    have hT := hmo d1 hw0.1 hw0.2.1 hw0.2.2
    have hdT := isT_m hT
    have hm0 := hT.1
    have hm1 := hT.2.1
    have hm2 := hT.2.2.1
    refine lv_aload_n hx hb dX12_effort_19 rfl (lv_at hl 0 rfl) ?_
    refine va_get (D := G) (ci := 11) (v := .ref (am 29)) (C := RX12) (T := TX12) (N := 52) hx hb hts in_X12 hown hK hP 0 (aM_0 _ _ _ _ _) rfl 47 (by decide) (hts _ q1312) (fun _ h9 => h9) rfl dX12_effort_20 ?_
    refine lv_iload_n hx hb dX12_effort_23 rfl (lv_at hl 1 rfl) ?_
    refine li_iald (g := (τ 47)) hx hb hK hP 29 0 (aM_29 _ _ _ _ _) rfl (by omega) (by omega) (by decide) dX12_effort_24 ?_
    refine lv_istore_n (lv' := [(2, .int (ii (τ 47 d1))), (0, .ref (am 0)), (1, .int (ii d1))]) hx hb dX12_effort_25 rfl hl (by decide) rfl (fun ls hl => ?_)
    refine lv_iload_n hx hb dX12_effort_26 rfl (lv_at hl 0 rfl) ?_
    refine li_sipush hx hb dX12_effort_27 (by decide) ?_
    refine li_div hx hb (by omega) (by omega) (by omega) (by omega) dX12_effort_30 ?_
    refine li_bipush hx hb dX12_effort_31 (by decide) ?_
    refine li_rem hx hb (by omega) (by omega) (by omega) (by omega) dX12_effort_33 ?_
    refine kR (va_runS (As := [.int (ii (((τ 47 d1) / 1000) % 10))]) (rest := []) ⟨hx, hb, hml, hown, hts⟩ (m_onesM l G ty (wM am ty τ (up ρ 14 (sc (0))) ++ cs) (((τ 47 d1) / 1000) % 10) ⟨by omega, by omega⟩) (va_cwS 1 hts (lw_S q1530 q1531 q87 q1532) rfl rfl rfl (by decide +kernel) ⟨Nat.le_of_ble_eq_true rfl, Nat.le_of_ble_eq_true rfl⟩) (psR hK hP hD hX) rfl rfl hl.1 rfl (lv_room (Nat.le_of_ble_eq_true rfl)) dX12_effort_34 ⟨Nat.le_of_ble_eq_true rfl, Nat.le_of_ble_eq_true rfl⟩) (fun v hv => ?_)
    obtain ⟨z34, rfl, rfl⟩ := hv
    refine lv_istore_n (lv' := [(3, .int (ii (ones (((τ 47 d1) / 1000) % 10)))), (2, .int (ii (τ 47 d1))), (0, .ref (am 0)), (1, .int (ii d1))]) hx hb dX12_effort_37 rfl hl (by decide) rfl (fun ls hl => ?_)
    refine lv_iload_n hx hb dX12_effort_38 rfl (lv_at hl 1 rfl) ?_
    refine li_bipush hx hb dX12_effort_39 (by decide) ?_
    refine li_div hx hb (by omega) (by omega) (by omega) (by omega) dX12_effort_41 ?_
    refine li_bipush hx hb dX12_effort_42 (by decide) ?_
    refine li_rem hx hb (by omega) (by omega) (by omega) (by omega) dX12_effort_44 ?_
    refine lv_istore (lv' := [(4, .int (ii (((τ 47 d1) / 10) % 10))), (3, .int (ii (ones (((τ 47 d1) / 1000) % 10)))), (2, .int (ii (τ 47 d1))), (0, .ref (am 0)), (1, .int (ii d1))]) hx hb dX12_effort_45 hl (by decide) rfl (fun ls hl => ?_)
    refine lv_iload_n hx hb dX12_effort_47 rfl (lv_at hl 2 rfl) ?_
    refine li_bipush hx hb dX12_effort_48 (by decide) ?_
    refine li_rem hx hb (by omega) (by omega) (by omega) (by omega) dX12_effort_50 ?_
    refine lv_istore (lv' := [(5, .int (ii ((τ 47 d1) % 10))), (4, .int (ii (((τ 47 d1) / 10) % 10))), (3, .int (ii (ones (((τ 47 d1) / 1000) % 10)))), (2, .int (ii (τ 47 d1))), (0, .ref (am 0)), (1, .int (ii d1))]) hx hb dX12_effort_51 hl (by decide) rfl (fun ls hl => ?_)
    refine lv_iload_n hx hb dX12_effort_53 rfl (lv_at hl 3 rfl) ?_
    refine li_sipush hx hb dX12_effort_54 (by decide) ?_
    refine li_div hx hb (by omega) (by omega) (by omega) (by omega) dX12_effort_57 ?_
    rcases (show (τ 47 d1) / 10000 = 0 ∨ (τ 47 d1) / 10000 = 1 ∨ (τ 47 d1) / 10000 = 2 ∨ (τ 47 d1) / 10000 = 3 ∨ (τ 47 d1) / 10000 = 4 ∨ (τ 47 d1) / 10000 = 5 ∨ ((τ 47 d1) / 10000 < 0 ∨ 5 < (τ 47 d1) / 10000) by omega) with c58 | c58 | c58 | c58 | c58 | c58 | c58
    · refine lv_tableIn (off := 38) (tgt := 96) hx hb dX12_effort_58 (by rw [ii_t ⟨by omega, by omega⟩]; omega) (by rw [ii_t ⟨by omega, by omega⟩]; omega) (by rw [ii_t ⟨by omega, by omega⟩, c58]; rfl) (by decide) ?_
      refine li_iconst hx hb dX12_effort_96 ?_
      exact eMi hQ hx hb hr hlk hP hD hS (Nat.le_of_ble_eq_true rfl) (Nat.le_of_ble_eq_true rfl) dX12_effort_97 (⟨1, rfl, rfl, .inr ⟨hwz, by unfold efV; omega⟩⟩)
    · refine lv_tableIn (off := 40) (tgt := 98) hx hb dX12_effort_58 (by rw [ii_t ⟨by omega, by omega⟩]; omega) (by rw [ii_t ⟨by omega, by omega⟩]; omega) (by rw [ii_t ⟨by omega, by omega⟩, c58]; rfl) (by decide) ?_
      refine li_iconst hx hb dX12_effort_98 ?_
      refine li_iconst hx hb dX12_effort_99 ?_
      refine lv_iload_n hx hb dX12_effort_100 rfl (lv_at hl 2 rfl) ?_
      refine li_mul hx hb dX12_effort_101 ?_
      refine li_add hx hb dX12_effort_102 ?_
      exact eMi hQ hx hb hr hlk hP hD hS (Nat.le_of_ble_eq_true rfl) (Nat.le_of_ble_eq_true rfl) dX12_effort_103 (⟨1 + (2 * (ones (((τ 47 d1) / 1000) % 10))), rfl, rfl, .inr ⟨hwz, by unfold efV; omega⟩⟩)
    · refine lv_tableIn (off := 46) (tgt := 104) hx hb dX12_effort_58 (by rw [ii_t ⟨by omega, by omega⟩]; omega) (by rw [ii_t ⟨by omega, by omega⟩]; omega) (by rw [ii_t ⟨by omega, by omega⟩, c58]; rfl) (by decide) ?_
      refine li_iconst hx hb dX12_effort_104 ?_
      refine lv_iload hx hb dX12_effort_105 (lv_at hl 0 rfl) ?_
      refine lv_iload hx hb dX12_effort_107 (lv_at hl 1 rfl) ?_
      refine li_icmp_le (tgt := 135) hx hb ⟨by omega, by omega⟩ ⟨by omega, by omega⟩ dX12_effort_109 (by decide) (fun c109 => ?_) (fun c109 => ?_)
      · refine li_iconst hx hb dX12_effort_135 ?_
        refine li_add hx hb dX12_effort_136 ?_
        refine li_top (b := 1) (by decide) ?_
        exact eMi hQ hx hb hr hlk hP hD hS (Nat.le_of_ble_eq_true rfl) (Nat.le_of_ble_eq_true rfl) dX12_effort_137 (⟨1, rfl, rfl, .inr ⟨hwz, by unfold efV; omega⟩⟩)
      · refine lv_iload hx hb dX12_effort_112 (lv_at hl 0 rfl) ?_
        refine lv_aload_n hx hb dX12_effort_114 rfl (lv_at hl 4 rfl) ?_
        refine va_get (D := G) (ci := 11) (v := .int (ii (τ 0 0))) (C := RX12) (T := TX12) (N := 52) hx hb hts in_X12 hown hK hP 0 (aM_0 _ _ _ _ _) rfl 0 (by decide) (hts _ q1265) (fun _ h9 => h9) rfl dX12_effort_115 ?_
        refine li_icmp_ge (tgt := 135) hx hb ⟨by omega, by omega⟩ ⟨by omega, by omega⟩ dX12_effort_118 (by decide) (fun c118 => ?_) (fun c118 => ?_)
        · refine li_iconst hx hb dX12_effort_135 ?_
          refine li_add hx hb dX12_effort_136 ?_
          refine li_top (b := 1) (by decide) ?_
          exact eMi hQ hx hb hr hlk hP hD hS (Nat.le_of_ble_eq_true rfl) (Nat.le_of_ble_eq_true rfl) dX12_effort_137 (⟨1, rfl, rfl, .inr ⟨hwz, by unfold efV; omega⟩⟩)
        · refine lv_aload_n hx hb dX12_effort_121 rfl (lv_at hl 4 rfl) ?_
          refine lv_iload hx hb dX12_effort_122 (lv_at hl 1 rfl) ?_
          refine lv_iload hx hb dX12_effort_124 (lv_at hl 0 rfl) ?_
          refine kR (va_runV (As := [.int (ii (((τ 47 d1) / 10) % 10)), .int (ii ((τ 47 d1) % 10))]) (rest := [.int (ii 1)]) ⟨hx, hb, hml, hown, hts⟩ (m_farM l G am ty τ (up ρ 14 (sc (0))) cs (((τ 47 d1) / 10) % 10) ((τ 47 d1) % 10) _ (show okF F from hF) (show Sim F τ from hSm) (show 0 ≤ (((τ 47 d1) / 10) % 10) ∧ (((τ 47 d1) / 10) % 10) ≤ ((τ 47 d1) % 10) ∧ ((τ 47 d1) % 10) ≤ F 8 0 from ⟨by omega, by omega, by omega⟩)) (cwV 2 hts (lw_V q1502 q1504 qs45 q87 q1505) rfl rfl rfl (by decide +kernel) ⟨Nat.le_of_ble_eq_true rfl, Nat.le_of_ble_eq_true rfl⟩) (pvR (r := (RX12, TX12, 52)) hK hP hD hX 0 (aM_0 _ _ _ _ _) rfl) rfl rfl hl.1 rfl (lv_room (Nat.le_of_ble_eq_true rfl)) dX12_effort_126 ⟨Nat.le_of_ble_eq_true rfl, Nat.le_of_ble_eq_true rfl⟩) (fun v hv => ?_)
          obtain ⟨rfl, hzb126⟩ := hv
          have hzb126 : 0 ≤ fs (F 2) (((τ 47 d1) / 10) % 10) ((τ 47 d1) % 10) ∧ fs (F 2) (((τ 47 d1) / 10) % 10) ((τ 47 d1) % 10) ≤ 1000 := hzb126
          refine li_bipush hx hb dX12_effort_129 (by decide) ?_
          refine li_div hx hb (by omega) (by omega) (by omega) (by omega) dX12_effort_131 ?_
          refine lv_goto (tgt := 136) hx hb dX12_effort_132 (by decide) ?_
          refine li_add hx hb dX12_effort_136 ?_
          exact eMi hQ hx hb hr hlk hP hD hS (Nat.le_of_ble_eq_true rfl) (Nat.le_of_ble_eq_true rfl) dX12_effort_137 (⟨1 + ((fs (F 2) (((τ 47 d1) / 10) % 10) ((τ 47 d1) % 10)) / 10), rfl, rfl, .inr ⟨hwz, by unfold efV; omega⟩⟩)
    · refine lv_tableIn (off := 80) (tgt := 138) hx hb dX12_effort_58 (by rw [ii_t ⟨by omega, by omega⟩]; omega) (by rw [ii_t ⟨by omega, by omega⟩]; omega) (by rw [ii_t ⟨by omega, by omega⟩, c58]; rfl) (by decide) ?_
      refine li_iconst hx hb dX12_effort_138 ?_
      refine li_iconst hx hb dX12_effort_139 ?_
      refine li_iconst hx hb dX12_effort_140 ?_
      refine lv_iload_n hx hb dX12_effort_141 rfl (lv_at hl 2 rfl) ?_
      refine li_mul hx hb dX12_effort_142 ?_
      refine li_add hx hb dX12_effort_143 ?_
      refine li_mul hx hb dX12_effort_144 ?_
      exact eMi hQ hx hb hr hlk hP hD hS (Nat.le_of_ble_eq_true rfl) (Nat.le_of_ble_eq_true rfl) dX12_effort_145 (⟨3 * (1 + (2 * (ones (((τ 47 d1) / 1000) % 10)))), rfl, rfl, .inr ⟨hwz, by unfold efV; omega⟩⟩)
    · refine lv_tableIn (off := 88) (tgt := 146) hx hb dX12_effort_58 (by rw [ii_t ⟨by omega, by omega⟩]; omega) (by rw [ii_t ⟨by omega, by omega⟩]; omega) (by rw [ii_t ⟨by omega, by omega⟩, c58]; rfl) (by decide) ?_
      refine li_bipush hx hb dX12_effort_146 (by decide) ?_
      exact eMi hQ hx hb hr hlk hP hD hS (Nat.le_of_ble_eq_true rfl) (Nat.le_of_ble_eq_true rfl) dX12_effort_148 (⟨10, rfl, rfl, .inr ⟨hwz, by unfold efV; omega⟩⟩)
    · refine lv_tableIn (off := 91) (tgt := 149) hx hb dX12_effort_58 (by rw [ii_t ⟨by omega, by omega⟩]; omega) (by rw [ii_t ⟨by omega, by omega⟩]; omega) (by rw [ii_t ⟨by omega, by omega⟩, c58]; rfl) (by decide) ?_
      refine li_iconst hx hb dX12_effort_149 ?_
      refine lv_iload hx hb dX12_effort_150 (lv_at hl 0 rfl) ?_
      refine li_add hx hb dX12_effort_152 ?_
      exact eMi hQ hx hb hr hlk hP hD hS (Nat.le_of_ble_eq_true rfl) (Nat.le_of_ble_eq_true rfl) dX12_effort_153 (⟨1 + ((τ 47 d1) % 10), rfl, rfl, .inr ⟨hwz, by unfold efV; omega⟩⟩)
    · refine lv_tableOut (tgt := 154) hx hb dX12_effort_58 (by rw [ii_t ⟨by omega, by omega⟩]; omega) (by decide) ?_
      refine li_iconst hx hb dX12_effort_154 ?_
      exact eMi hQ hx hb hr hlk hP hD hS (Nat.le_of_ble_eq_true rfl) (Nat.le_of_ble_eq_true rfl) dX12_effort_155 (⟨0, rfl, rfl, .inr ⟨hwz, by unfold efV; omega⟩⟩)
  · refine lv_aload_n hx hb dX12_effort_13 rfl (lv_at hl 0 rfl) ?_
    refine lv_iload_n hx hb dX12_effort_14 rfl (lv_at hl 1 rfl) ?_
    refine kR (va_runV (As := [.int (ii d1)]) (rest := []) ⟨hx, hb, hml, hown, hts⟩ (m_wrongShelfM l G am ty τ (up ρ 14 (sc (0))) cs d1 (show rg d1 from hd1) (show ∀ i, 0 ≤ (τ 46) i ∧ (τ 46) i ≤ 2 from hh)) (cwV 1 hts (lw_V q1734 q1736 qs74 q87 q1737) rfl rfl rfl (by decide +kernel) ⟨Nat.le_of_ble_eq_true rfl, Nat.le_of_ble_eq_true rfl⟩) (pvR (r := (RX12, TX12, 52)) hK hP hD hX 0 (aM_0 _ _ _ _ _) rfl) rfl rfl hl.1 rfl (lv_room (Nat.le_of_ble_eq_true rfl)) dX12_effort_15 ⟨Nat.le_of_ble_eq_true rfl, Nat.le_of_ble_eq_true rfl⟩) (fun v hv => ?_)
    obtain ⟨rfl, hz15⟩ := hv
    have hz15 : -12 ≤ wrS (τ 46) d1 ∧ wrS (τ 46) d1 ≤ 0 := hz15
    refine li_top (b := (wrS (τ 46) d1)) rfl ?_
    exact eMi hQ hx hb hr hlk hP hD hS (Nat.le_of_ble_eq_true rfl) (Nat.le_of_ble_eq_true rfl) dX12_effort_18 (⟨wrS (τ 46) d1, rfl, rfl, .inl ⟨by omega, rfl⟩⟩)
set_option maxHeartbeats 4000000 in
theorem m_tossM (l : Launch) (G : va_G) (am : Nat → Nat) (ty : Nat → ClassId) (τ ρ : mem) (cs : va_W) (d1 : Int)  (hd1 : rg d1) (hh : ∀ i, 0 ≤ (τ 46) i ∧ (τ 46) i ≤ 2) (hmo : ∀ i, 0 ≤ i → i ≤ 7 → (τ 46) i = 1 → isT ((τ 47) i)) : cM l yX12_toss (ws_ yX12_toss cX12_toss 4 (some .int)) (rm4 2 0 0 46) G ty (wM am ty τ ρ ++ cs) [.ref (am 0), .int (ii d1)] 0 0 (fun r W' => ∃ (z : Int), r = some (.int (ii z)) ∧ W' = wM am ty τ (up ρ 14 (sc (0))) ++ cs ∧ ((wrS (τ 46) d1 < 0 ∧ z = wrS (τ 46) d1) ∨ (wrS (τ 46) d1 = 0 ∧ z = tsV ((τ 47) d1 / 10000) ((τ 47) d1) ((τ 47) d1 / 10 % 10) ((τ 47) d1 % 10)))) := by
  refine cM.of (by decide) (Nat.le_of_ble_eq_true rfl) ?_
  intro p e s m args below meth c A Q H locs hQ hx hb hr hml hown hlk hname hts hK hP hD hS hA hX ls hl
  have hl : lv_has ls 4 [(0, .ref (am 0)), (1, .int (ii d1))] := hl
  obtain ⟨hd1a, hd1b⟩ := id hd1
  refine lv_aload_n hx hb dX12_toss_0 rfl (lv_at hl 0 rfl) ?_
  refine li_iconst hx hb dX12_toss_1 ?_
  refine va_put (D := G) (ci := 11) (v := .int (ii 0)) (ty := .int) (C := RX12) (T := TX12) (N := 52) hx hb hts in_X12 tyX12 tyX12_ok nmX12 hown hK hP hD hS 0 (aM_0 _ _ _ _ _) rfl 14 (by decide) (hts _ q1279) (fun _ h9 => h9) rfl (tyX12_ok 14 (by decide)) rfl rfl (Nat.le_of_ble_eq_true rfl) dX12_toss_2 (fun H locs hP hD hS => ?_)
  have hP : va_P G gcl (wM am ty τ (up ρ 14 (sc (0))) ++ cs) H := hP
  have hD : va_D A (wM am ty τ (up ρ 14 (sc (0))) ++ cs) := hD
  refine lv_aload_n hx hb dX12_toss_5 rfl (lv_at hl 0 rfl) ?_
  refine lv_iload_n hx hb dX12_toss_6 rfl (lv_at hl 1 rfl) ?_
  refine kR (va_runV (As := [.int (ii d1)]) (rest := []) ⟨hx, hb, hml, hown, hts⟩ (m_wrongShelfM l G am ty τ (up ρ 14 (sc (0))) cs d1 (show rg d1 from hd1) (show ∀ i, 0 ≤ (τ 46) i ∧ (τ 46) i ≤ 2 from hh)) (cwV 1 hts (lw_V q1734 q1736 qs74 q87 q1737) rfl rfl rfl (by decide +kernel) ⟨Nat.le_of_ble_eq_true rfl, Nat.le_of_ble_eq_true rfl⟩) (pvR (r := (RX12, TX12, 52)) hK hP hD hX 0 (aM_0 _ _ _ _ _) rfl) rfl rfl hl.1 rfl (lv_room (Nat.le_of_ble_eq_true rfl)) dX12_toss_7 ⟨Nat.le_of_ble_eq_true rfl, Nat.le_of_ble_eq_true rfl⟩) (fun v hv => ?_)
  obtain ⟨rfl, hz7⟩ := hv
  have hz7 : -12 ≤ wrS (τ 46) d1 ∧ wrS (τ 46) d1 ≤ 0 := hz7
  refine li_top (b := (wrS (τ 46) d1)) rfl ?_
  refine li_if_ge (tgt := 19) hx hb ⟨Int.le_trans (by decide) hz7.1, Int.le_trans hz7.2 (by decide)⟩ dX12_toss_10 (by decide) (fun c10 => ?_) (fun c10 => ?_)
  · have hw0 := wrS_0 c10
    have hwz : wrS (τ 46) d1 = 0 := by omega
    have hT := hmo d1 hw0.1 hw0.2.1 hw0.2.2
    have hdT := isT_m hT
    have hm0 := hT.1
    have hm1 := hT.2.1
    have hm2 := hT.2.2.1
    refine lv_aload_n hx hb dX12_toss_19 rfl (lv_at hl 0 rfl) ?_
    refine va_get (D := G) (ci := 11) (v := .ref (am 29)) (C := RX12) (T := TX12) (N := 52) hx hb hts in_X12 hown hK hP 0 (aM_0 _ _ _ _ _) rfl 47 (by decide) (hts _ q1312) (fun _ h9 => h9) rfl dX12_toss_20 ?_
    refine lv_iload_n hx hb dX12_toss_23 rfl (lv_at hl 1 rfl) ?_
    refine li_iald (g := (τ 47)) hx hb hK hP 29 0 (aM_29 _ _ _ _ _) rfl (by omega) (by omega) (by decide) dX12_toss_24 ?_
    refine lv_istore_n (lv' := [(2, .int (ii (τ 47 d1))), (0, .ref (am 0)), (1, .int (ii d1))]) hx hb dX12_toss_25 rfl hl (by decide) rfl (fun ls hl => ?_)
    refine lv_iload_n hx hb dX12_toss_26 rfl (lv_at hl 0 rfl) ?_
    refine li_sipush hx hb dX12_toss_27 (by decide) ?_
    refine li_div hx hb (by omega) (by omega) (by omega) (by omega) dX12_toss_30 ?_
    refine lv_istore_n (lv' := [(3, .int (ii ((τ 47 d1) / 10000))), (2, .int (ii (τ 47 d1))), (0, .ref (am 0)), (1, .int (ii d1))]) hx hb dX12_toss_31 rfl hl (by decide) rfl (fun ls hl => ?_)
    refine lv_iload_n hx hb dX12_toss_32 rfl (lv_at hl 0 rfl) ?_
    refine li_bipush hx hb dX12_toss_33 (by decide) ?_
    refine li_icmp_eq (tgt := 52) hx hb ⟨by omega, by omega⟩ ⟨by decide, by decide⟩ dX12_toss_35 (by decide) (fun c35 => ?_) (fun c35 => ?_)
    · refine li_bipush hx hb dX12_toss_52 (by decide) ?_
      exact eMi hQ hx hb hr hlk hP hD hS (Nat.le_of_ble_eq_true rfl) (Nat.le_of_ble_eq_true rfl) dX12_toss_54 (⟨-15, rfl, rfl, .inr ⟨hwz, by unfold tsV; omega⟩⟩)
    · refine lv_iload_n hx hb dX12_toss_38 rfl (lv_at hl 1 rfl) ?_
      refine li_bipush hx hb dX12_toss_39 (by decide) ?_
      refine li_div hx hb (by omega) (by omega) (by omega) (by omega) dX12_toss_41 ?_
      refine li_bipush hx hb dX12_toss_42 (by decide) ?_
      refine li_rem hx hb (by omega) (by omega) (by omega) (by omega) dX12_toss_44 ?_
      refine lv_iload_n hx hb dX12_toss_45 rfl (lv_at hl 1 rfl) ?_
      refine li_bipush hx hb dX12_toss_46 (by decide) ?_
      refine li_rem hx hb (by omega) (by omega) (by omega) (by omega) dX12_toss_48 ?_
      refine li_icmp_ne (tgt := 55) hx hb ⟨by omega, by omega⟩ ⟨by omega, by omega⟩ dX12_toss_49 (by decide) (fun c49 => ?_) (fun c49 => ?_)
      · refine lv_iload_n hx hb dX12_toss_55 rfl (lv_at hl 0 rfl) ?_
        refine li_iconst hx hb dX12_toss_56 ?_
        refine li_icmp_ne (tgt := 68) hx hb ⟨by omega, by omega⟩ ⟨by decide, by decide⟩ dX12_toss_57 (by decide) (fun c57 => ?_) (fun c57 => ?_)
        · refine lv_iload_n hx hb dX12_toss_68 rfl (lv_at hl 0 rfl) ?_
          refine li_iconst hx hb dX12_toss_69 ?_
          refine li_icmp_ne (tgt := 84) hx hb ⟨by omega, by omega⟩ ⟨by decide, by decide⟩ dX12_toss_70 (by decide) (fun c70 => ?_) (fun c70 => ?_)
          · refine lv_iload_n hx hb dX12_toss_84 rfl (lv_at hl 1 rfl) ?_
            exact eMi hQ hx hb hr hlk hP hD hS (Nat.le_of_ble_eq_true rfl) (Nat.le_of_ble_eq_true rfl) dX12_toss_85 (⟨τ 47 d1, rfl, rfl, .inr ⟨hwz, by unfold tsV; omega⟩⟩)
          · refine lv_ldcw (v := ii 200000) hx hb hown (hts _ q1743) dX12_toss_73 ?_
            refine lv_iload_n hx hb dX12_toss_76 rfl (lv_at hl 1 rfl) ?_
            refine li_bipush hx hb dX12_toss_77 (by decide) ?_
            refine li_rem hx hb (by omega) (by omega) (by omega) (by omega) dX12_toss_79 ?_
            refine li_add hx hb dX12_toss_80 ?_
            refine lv_goto (tgt := 85) hx hb dX12_toss_81 (by decide) ?_
            exact eMi hQ hx hb hr hlk hP hD hS (Nat.le_of_ble_eq_true rfl) (Nat.le_of_ble_eq_true rfl) dX12_toss_85 (⟨200000 + ((τ 47 d1) % 10), rfl, rfl, .inr ⟨hwz, by unfold tsV; omega⟩⟩)
        · refine lv_ldcw (v := ii 100000) hx hb hown (hts _ q1742) dX12_toss_60 ?_
          refine lv_iload_n hx hb dX12_toss_63 rfl (lv_at hl 1 rfl) ?_
          refine li_add hx hb dX12_toss_64 ?_
          refine lv_goto (tgt := 85) hx hb dX12_toss_65 (by decide) ?_
          exact eMi hQ hx hb hr hlk hP hD hS (Nat.le_of_ble_eq_true rfl) (Nat.le_of_ble_eq_true rfl) dX12_toss_85 (⟨100000 + (τ 47 d1), rfl, rfl, .inr ⟨hwz, by unfold tsV; omega⟩⟩)
      · refine li_bipush hx hb dX12_toss_52 (by decide) ?_
        exact eMi hQ hx hb hr hlk hP hD hS (Nat.le_of_ble_eq_true rfl) (Nat.le_of_ble_eq_true rfl) dX12_toss_54 (⟨-15, rfl, rfl, .inr ⟨hwz, by unfold tsV; omega⟩⟩)
  · refine lv_aload_n hx hb dX12_toss_13 rfl (lv_at hl 0 rfl) ?_
    refine lv_iload_n hx hb dX12_toss_14 rfl (lv_at hl 1 rfl) ?_
    refine kR (va_runV (As := [.int (ii d1)]) (rest := []) ⟨hx, hb, hml, hown, hts⟩ (m_wrongShelfM l G am ty τ (up ρ 14 (sc (0))) cs d1 (show rg d1 from hd1) (show ∀ i, 0 ≤ (τ 46) i ∧ (τ 46) i ≤ 2 from hh)) (cwV 1 hts (lw_V q1734 q1736 qs74 q87 q1737) rfl rfl rfl (by decide +kernel) ⟨Nat.le_of_ble_eq_true rfl, Nat.le_of_ble_eq_true rfl⟩) (pvR (r := (RX12, TX12, 52)) hK hP hD hX 0 (aM_0 _ _ _ _ _) rfl) rfl rfl hl.1 rfl (lv_room (Nat.le_of_ble_eq_true rfl)) dX12_toss_15 ⟨Nat.le_of_ble_eq_true rfl, Nat.le_of_ble_eq_true rfl⟩) (fun v hv => ?_)
    obtain ⟨rfl, hz15⟩ := hv
    have hz15 : -12 ≤ wrS (τ 46) d1 ∧ wrS (τ 46) d1 ≤ 0 := hz15
    refine li_top (b := (wrS (τ 46) d1)) rfl ?_
    exact eMi hQ hx hb hr hlk hP hD hS (Nat.le_of_ble_eq_true rfl) (Nat.le_of_ble_eq_true rfl) dX12_toss_18 (⟨wrS (τ 46) d1, rfl, rfl, .inl ⟨by omega, rfl⟩⟩)
