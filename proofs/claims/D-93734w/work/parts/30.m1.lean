/-! DownRopeModel: leaves (written by gen/m1.py) -/
set_option maxRecDepth 100000
set_option maxHeartbeats 4000000 in
theorem m_inM (l : Launch) (G : va_G) (ty : Nat → ClassId) (ws : va_W) (v a b : Int) (hv : rl v) (ha : rl a) (hb0 : rl b) : cR l yX12_in (ws_ yX12_in cX12_in 6 (some .boolean)) (rm4 0 0 0 0) G ty (ws) [.long (ll (v)), .long (ll (a)), .long (ll (b))] (fun r => ∃ z : Int, r = some (.int (ii z)) ∧ ((z = 1 ∧ a ≤ v ∧ v ≤ b) ∨ (z = 0 ∧ (v < a ∨ b < v)))) := by
  refine cR.of (by decide) (Nat.le_of_ble_eq_true rfl) ?_
  intro p e s m args below meth c Q hQ hx hb hr hml hown hlk hts hK hP hD hX ls hl
  have hl : lv_has ls 6 [(0, .long (ll (v))), (2, .long (ll (a))), (4, .long (ll (b)))] := hl
  obtain ⟨hv1, hv2⟩ := hv
  obtain ⟨ha1, ha2⟩ := ha
  obtain ⟨hb1, hb2⟩ := hb0
  refine lv_lload_n hx hb dX12_in_0 rfl (lv_at hl 0 rfl) ?_
  refine lv_lload_n hx hb dX12_in_1 rfl (lv_at hl 1 rfl) ?_
  refine W.lcmp hx hb dX12_in_2 ?_
  refine lc_if_lt (tgt := 17) hx hb ⟨by omega, by omega⟩ ⟨by omega, by omega⟩ dX12_in_3 (by decide) (fun c3 => ?_) (fun c3 => ?_)
  · refine li_iconst hx hb dX12_in_17 ?_
    exact eRz hQ hx hb hr hlk dX12_in_18 (.inl rfl) (⟨_, rfl, by omega⟩)
  · refine lv_lload_n hx hb dX12_in_6 rfl (lv_at hl 0 rfl) ?_
    refine lv_lload hx hb dX12_in_7 (lv_at hl 2 rfl) ?_
    refine W.lcmp hx hb dX12_in_9 ?_
    refine lc_if_gt (tgt := 17) hx hb ⟨by omega, by omega⟩ ⟨by omega, by omega⟩ dX12_in_10 (by decide) (fun c10 => ?_) (fun c10 => ?_)
    · refine li_iconst hx hb dX12_in_17 ?_
      exact eRz hQ hx hb hr hlk dX12_in_18 (.inl rfl) (⟨_, rfl, by omega⟩)
    · refine li_iconst hx hb dX12_in_13 ?_
      refine lv_goto (tgt := 18) hx hb dX12_in_14 (by decide) ?_
      exact eRz hQ hx hb hr hlk dX12_in_18 (.inr rfl) (⟨_, rfl, by omega⟩)
set_option maxHeartbeats 4000000 in
theorem m_isLedgeM (l : Launch) (G : va_G) (am : Nat → Nat) (ty : Nat → ClassId) (τ ρ : mem) (cs : va_W) (k1 : Int) (F : mem) (hF : okF F) (hSm : Sim F τ) (hk : rg k1) : cR l yX12_isLedge (ws_ yX12_isLedge cX12_isLedge 2 (some .boolean)) (rm4 1 0 0 25) G ty (wM am ty τ ρ ++ cs) [.ref (am 0), .int (ii k1)] (fun r => ∃ (z : Int), r = some (.int (ii z)) ∧ ((z = 1 ∧ (0 ≤ k1 ∧ k1 < F 8 0)) ∨ (z = 0 ∧ (¬ (0 ≤ k1 ∧ k1 < F 8 0))))) := by
  refine cR.of (by decide) (Nat.le_of_ble_eq_true rfl) ?_
  intro p e s m args below meth c Q hQ hx hb hr hml hown hlk hts hK hP hD hX ls hl
  have hl : lv_has ls 2 [(0, .ref (am 0)), (1, .int (ii k1))] := hl
  obtain ⟨hW, hWS, hlg⟩ := id hF
  obtain ⟨hw0, hw1, hw2, hw3, hw4, hw5, h8a, h8b, h9a, h9b, h10a, h10b⟩ := id hW
  obtain ⟨mL, mP, mR, mC, mK, mM, mA, mB, mD⟩ := id hSm
  obtain ⟨hk1, hk2⟩ := id hk
  refine lv_iload_n hx hb dX12_isLedge_0 rfl (lv_at hl 1 rfl) ?_
  refine lv_i2l (v := ll k1) hx hb dX12_isLedge_1 (ll_i hk) ?_
  refine lv_lconst (v := ll 0) hx hb dX12_isLedge_2 (by decide) ?_
  refine lv_aload_n hx hb dX12_isLedge_3 rfl (lv_at hl 0 rfl) ?_
  refine va_get (D := G) (ci := 11) (v := .int (ii (τ 0 0))) (C := RX12) (T := TX12) (N := 52) hx hb hts in_X12 hown hK hP 0 (aM_0 _ _ _ _ _) rfl 0 (by decide) (hts _ q1265) (fun _ h9 => h9) rfl dX12_isLedge_4 ?_
  refine li_iconst hx hb dX12_isLedge_7 ?_
  refine li_sub hx hb dX12_isLedge_8 ?_
  refine lv_i2l (v := ll (τ 0 0 - 1)) hx hb dX12_isLedge_9 (ll_i ⟨by omega, by omega⟩) ?_
  refine kR (va_runS (As := [.long (ll (k1)), .long (ll (0)), .long (ll (τ 0 0 - 1))]) (rest := []) ⟨hx, hb, hml, hown, hts⟩ (m_inM l G ty (wM am ty τ ρ ++ cs) k1 0 (τ 0 0 - 1) ⟨by omega, by omega⟩ ⟨by decide, by decide⟩ ⟨by omega, by omega⟩) (va_cwS 3 hts (lw_S q1436 q1437 q87 q1438) rfl rfl rfl (by decide +kernel) ⟨Nat.le_of_ble_eq_true rfl, Nat.le_of_ble_eq_true rfl⟩) (psR hK hP hD hX) rfl rfl hl.1 rfl (lv_room (Nat.le_of_ble_eq_true rfl)) dX12_isLedge_10 ⟨Nat.le_of_ble_eq_true rfl, Nat.le_of_ble_eq_true rfl⟩) (fun v hv => ?_)
  obtain ⟨z10, rfl, ⟨rfl, h10⟩ | ⟨rfl, h10⟩⟩ := hv
  · exact eRz hQ hx hb hr hlk dX12_isLedge_13 (.inr rfl) (⟨1, rfl, .inl ⟨rfl, by omega⟩⟩)
  · exact eRz hQ hx hb hr hlk dX12_isLedge_13 (.inl rfl) (⟨0, rfl, .inr ⟨rfl, by omega⟩⟩)
set_option maxHeartbeats 4000000 in
theorem m_farM (l : Launch) (G : va_G) (am : Nat → Nat) (ty : Nat → ClassId) (τ ρ : mem) (cs : va_W) (a1 : Int) (b1 : Int) (F : mem) (hF : okF F) (hSm : Sim F τ) (hab : 0 ≤ a1 ∧ a1 ≤ b1 ∧ b1 ≤ F 8 0) : cR l yX12_farFrom (ws_ yX12_farFrom cX12_farFrom 5 (some .int)) (rm4 0 0 0 0) G ty (wM am ty τ ρ ++ cs) [.ref (am 0), .int (ii a1), .int (ii b1)] (fun r => r = some (.int (ii (fs (F 2) a1 b1))) ∧ (0 ≤ fs (F 2) a1 b1 ∧ fs (F 2) a1 b1 ≤ 1000)) := by
  refine cR.of (by decide) (Nat.le_of_ble_eq_true rfl) ?_
  intro p e s m args below meth c Q hQ hx hb hr hml hown hlk hts hK hP hD hX ls hl
  have hl : lv_has ls 5 [(0, .ref (am 0)), (1, .int (ii a1)), (2, .int (ii b1))] := hl
  obtain ⟨hW, hWS, hlg⟩ := id hF
  obtain ⟨hw0, hw1, hw2, hw3, hw4, hw5, h8a, h8b, h9a, h9b, h10a, h10b⟩ := id hW
  obtain ⟨mL, mP, mR, mC, mK, mM, mA, mB, mD⟩ := id hSm
  obtain ⟨ha0, ha1, hb0⟩ := id hab
  refine li_iconst hx hb dX12_farFrom_0 ?_
  refine lv_istore_n (lv' := [(3, .int (ii 0)), (0, .ref (am 0)), (1, .int (ii a1)), (2, .int (ii b1))]) hx hb dX12_farFrom_1 rfl hl (by decide) rfl (fun ls hl => ?_)
  refine lv_iload_n hx hb dX12_farFrom_2 rfl (lv_at hl 2 rfl) ?_
  refine lv_istore (lv' := [(4, .int (ii a1)), (3, .int (ii 0)), (0, .ref (am 0)), (1, .int (ii a1)), (2, .int (ii b1))]) hx hb dX12_farFrom_3 hl (by decide) rfl (fun ls hl => ?_)
  have L5 : ∀ (n : Nat) (k : Int) (sm : Int) (_ : a1 ≤ k) (_ : k ≤ b1) (_ : sm = fs (F 2) a1 k) (_ : (b1 - k).toNat < n) (ls : Array Slot), lv_has ls 5 [(4, .int (ii k)), (3, .int (ii sm)), (0, .ref (am 0)), (1, .int (ii a1)), (2, .int (ii b1))] → W p l e (rm4 0 0 0 0) s m args below meth c s.heap [] 0 0 Q (F0 m 5 ls []) := by
    intro n
    induction n with
    | zero =>
      intro k sm hk1 hk2 hk3 hm
      exact absurd hm (Nat.not_lt_zero _)
    | succ n ih =>
      intro k sm hk1 hk2 hk3 hm ls hl
      refine lv_iload hx hb dX12_farFrom_5 (lv_at hl 0 rfl) ?_
      refine lv_iload_n hx hb dX12_farFrom_7 rfl (lv_at hl 4 rfl) ?_
      refine li_icmp_ge (tgt := 27) hx hb ⟨by omega, by omega⟩ ⟨by omega, by omega⟩ dX12_farFrom_8 (by decide) (fun c8 => ?_) (fun c8 => ?_)
      · refine lv_iload_n hx hb dX12_farFrom_27 rfl (lv_at hl 1 rfl) ?_
        exact eRi hQ hx hb hr hlk dX12_farFrom_28 (⟨by rw [hk3, show k = b1 by omega], fs_le (F 2) hw2 ha0 (by omega)⟩)
      · refine lv_iload_n hx hb dX12_farFrom_11 rfl (lv_at hl 1 rfl) ?_
        refine lv_aload_n hx hb dX12_farFrom_12 rfl (lv_at hl 2 rfl) ?_
        refine va_get (D := G) (ci := 11) (v := .ref (am 3)) (C := RX12) (T := TX12) (N := 52) hx hb hts in_X12 hown hK hP 0 (aM_0 _ _ _ _ _) rfl 3 (by decide) (hts _ q1268) (fun _ h9 => h9) rfl dX12_farFrom_13 ?_
        refine lv_iload hx hb dX12_farFrom_16 (lv_at hl 0 rfl) ?_
        refine li_iald (g := (τ 3)) hx hb hK hP 3 0 (aM_3 _ _ _ _ _) rfl (by omega) (by omega) (by decide) dX12_farFrom_18 ?_
        refine li_add hx hb dX12_farFrom_19 ?_
        refine lv_istore_n (lv' := [(3, .int (ii (sm + (τ 3 k)))), (4, .int (ii k)), (0, .ref (am 0)), (1, .int (ii a1)), (2, .int (ii b1))]) hx hb dX12_farFrom_20 rfl hl (by decide) rfl (fun ls hl => ?_)
        refine li_iinc (a := k) (lv' := [(4, .int (ii (k + 1))), (3, .int (ii (sm + (τ 3 k)))), (0, .ref (am 0)), (1, .int (ii a1)), (2, .int (ii b1))]) hx hb dX12_farFrom_21 hl (k := 1) rfl (by decide) rfl (fun ls hl => ?_)
        refine lv_goto (tgt := 5) hx hb dX12_farFrom_24 (by decide) ?_
        exact ih (k + 1) (sm + (τ 3 k)) (by omega) (by omega) (by rw [hk3, (mA k (by omega) (by omega)).2.2.1]; exact (fs_s _ hk1).symm) (by omega) ls (lv_sub hl [0, 1, 2, 3, 4] rfl)
  exact L5 _ a1 0 (Int.le_refl _) (ha1) ((fs_0 _ _).symm) (Nat.lt_succ_self _) ls (lv_sub hl [0, 1, 2, 3, 4] rfl)
set_option maxHeartbeats 4000000 in
theorem m_onesM (l : Launch) (G : va_G) (ty : Nat → ClassId) (ws : va_W) (v : Int) (hv : 0 ≤ v ∧ v ≤ 7) : cR l yX12_ones (ws_ yX12_ones cX12_ones 1 (some .int)) (rm4 0 0 0 0) G ty (ws) [.int (ii v)] (fun r => ∃ z : Int, r = some (.int (ii z)) ∧ z = ones v) := by
  refine cR.of (by decide) (Nat.le_of_ble_eq_true rfl) ?_
  intro p e s m args below meth c Q hQ hx hb hr hml hown hlk hts hK hP hD hX ls hl
  have hl : lv_has ls 1 [(0, .int (ii v))] := hl
  obtain ⟨hv0, hv1⟩ := hv
  refine lv_iload_n hx hb dX12_ones_0 rfl (lv_at hl 0 rfl) ?_
  refine li_iconst hx hb dX12_ones_1 ?_
  refine li_rem hx hb (by omega) (by omega) (by omega) (by omega) dX12_ones_2 ?_
  refine lv_iload_n hx hb dX12_ones_3 rfl (lv_at hl 0 rfl) ?_
  refine li_iconst hx hb dX12_ones_4 ?_
  refine li_div hx hb (by omega) (by omega) (by omega) (by omega) dX12_ones_5 ?_
  refine li_iconst hx hb dX12_ones_6 ?_
  refine li_rem hx hb (by omega) (by omega) (by omega) (by omega) dX12_ones_7 ?_
  refine li_add hx hb dX12_ones_8 ?_
  refine lv_iload_n hx hb dX12_ones_9 rfl (lv_at hl 0 rfl) ?_
  refine li_iconst hx hb dX12_ones_10 ?_
  refine li_div hx hb (by omega) (by omega) (by omega) (by omega) dX12_ones_11 ?_
  refine li_add hx hb dX12_ones_12 ?_
  exact eRi hQ hx hb hr hlk dX12_ones_13 (⟨_, rfl, by unfold ones; omega⟩)
set_option maxHeartbeats 4000000 in
theorem m_isMoveM (l : Launch) (G : va_G) (ty : Nat → ClassId) (ws : va_W) (mv : Int) (hm : rg mv) : cR l yX12_isMove (ws_ yX12_isMove cX12_isMove 1 (some .boolean)) (rm4 1 0 0 25) G ty (ws) [.int (ii mv)] (fun r => ∃ z : Int, r = some (.int (ii z)) ∧ ((z = 1 ∧ isT mv) ∨ (z = 0 ∧ ¬ isT mv))) := by
  refine cR.of (by decide) (Nat.le_of_ble_eq_true rfl) ?_
  intro p e s m args below meth c Q hQ hx hb hr hml hown hlk hts hK hP hD hX ls hl
  have hl : lv_has ls 1 [(0, .int (ii mv))] := hl
  obtain ⟨hm1, hm2⟩ := id hm
  refine lv_iload_n hx hb dX12_isMove_0 rfl (lv_at hl 0 rfl) ?_
  refine lv_i2l (v := ll mv) hx hb dX12_isMove_1 (ll_i hm) ?_
  refine lv_lconst (v := ll 0) hx hb dX12_isMove_2 (by decide) ?_
  refine lv_ldc2 (v := ll 69999) hx hb hown (hts _ q1513) dX12_isMove_3 ?_
  refine kR (va_runS (As := [.long (ll (mv)), .long (ll (0)), .long (ll (69999))]) (rest := []) ⟨hx, hb, hml, hown, hts⟩ (m_inM l G ty ws mv 0 69999 (rg_rl hm) ⟨by decide, by decide⟩ ⟨by decide, by decide⟩) (va_cwS 3 hts (lw_S q1436 q1437 q87 q1438) rfl rfl rfl (by decide +kernel) ⟨Nat.le_of_ble_eq_true rfl, Nat.le_of_ble_eq_true rfl⟩) (psR hK hP hD hX) rfl rfl hl.1 rfl (lv_room (Nat.le_of_ble_eq_true rfl)) dX12_isMove_6 ⟨Nat.le_of_ble_eq_true rfl, Nat.le_of_ble_eq_true rfl⟩) (fun v hv => ?_)
  obtain ⟨z6, rfl, ⟨rfl, h6⟩ | ⟨rfl, h6⟩⟩ := hv
  · refine li_if_eq (tgt := 59) hx hb ⟨by decide, by decide⟩ dX12_isMove_9 (by decide) (fun c9 => ?_) (fun c9 => ?_)
    · exact absurd c9 (by decide)
    · refine lv_iload_n hx hb dX12_isMove_12 rfl (lv_at hl 0 rfl) ?_
      refine li_sipush hx hb dX12_isMove_13 (by decide) ?_
      refine li_div hx hb (by omega) (by omega) (by omega) (by omega) dX12_isMove_16 ?_
      refine li_bipush hx hb dX12_isMove_17 (by decide) ?_
      refine li_rem hx hb (by omega) (by omega) (by omega) (by omega) dX12_isMove_19 ?_
      refine li_bipush hx hb dX12_isMove_20 (by decide) ?_
      refine li_icmp_ge (tgt := 59) hx hb ⟨by omega, by omega⟩ ⟨by decide, by decide⟩ dX12_isMove_22 (by decide) (fun c22 => ?_) (fun c22 => ?_)
      · refine li_iconst hx hb dX12_isMove_59 ?_
        exact eRz hQ hx hb hr hlk dX12_isMove_60 (.inl rfl) (⟨_, rfl, .inr ⟨rfl, fun h => by obtain ⟨q1, q2, q3, q4, q5, q6⟩ := h; omega⟩⟩)
      · refine lv_iload_n hx hb dX12_isMove_25 rfl (lv_at hl 0 rfl) ?_
        refine li_bipush hx hb dX12_isMove_26 (by decide) ?_
        refine li_div hx hb (by omega) (by omega) (by omega) (by omega) dX12_isMove_28 ?_
        refine li_bipush hx hb dX12_isMove_29 (by decide) ?_
        refine li_rem hx hb (by omega) (by omega) (by omega) (by omega) dX12_isMove_31 ?_
        refine li_iconst hx hb dX12_isMove_32 ?_
        refine li_icmp_ge (tgt := 59) hx hb ⟨by omega, by omega⟩ ⟨by decide, by decide⟩ dX12_isMove_33 (by decide) (fun c33 => ?_) (fun c33 => ?_)
        · refine li_iconst hx hb dX12_isMove_59 ?_
          exact eRz hQ hx hb hr hlk dX12_isMove_60 (.inl rfl) (⟨_, rfl, .inr ⟨rfl, fun h => by obtain ⟨q1, q2, q3, q4, q5, q6⟩ := h; omega⟩⟩)
        · refine lv_iload_n hx hb dX12_isMove_36 rfl (lv_at hl 0 rfl) ?_
          refine li_bipush hx hb dX12_isMove_37 (by decide) ?_
          refine li_div hx hb (by omega) (by omega) (by omega) (by omega) dX12_isMove_39 ?_
          refine li_bipush hx hb dX12_isMove_40 (by decide) ?_
          refine li_rem hx hb (by omega) (by omega) (by omega) (by omega) dX12_isMove_42 ?_
          refine li_iconst hx hb dX12_isMove_43 ?_
          refine li_icmp_ge (tgt := 59) hx hb ⟨by omega, by omega⟩ ⟨by decide, by decide⟩ dX12_isMove_44 (by decide) (fun c44 => ?_) (fun c44 => ?_)
          · refine li_iconst hx hb dX12_isMove_59 ?_
            exact eRz hQ hx hb hr hlk dX12_isMove_60 (.inl rfl) (⟨_, rfl, .inr ⟨rfl, fun h => by obtain ⟨q1, q2, q3, q4, q5, q6⟩ := h; omega⟩⟩)
          · refine lv_iload_n hx hb dX12_isMove_47 rfl (lv_at hl 0 rfl) ?_
            refine li_bipush hx hb dX12_isMove_48 (by decide) ?_
            refine li_rem hx hb (by omega) (by omega) (by omega) (by omega) dX12_isMove_50 ?_
            refine li_iconst hx hb dX12_isMove_51 ?_
            refine li_icmp_ge (tgt := 59) hx hb ⟨by omega, by omega⟩ ⟨by decide, by decide⟩ dX12_isMove_52 (by decide) (fun c52 => ?_) (fun c52 => ?_)
            · refine li_iconst hx hb dX12_isMove_59 ?_
              exact eRz hQ hx hb hr hlk dX12_isMove_60 (.inl rfl) (⟨_, rfl, .inr ⟨rfl, fun h => by obtain ⟨q1, q2, q3, q4, q5, q6⟩ := h; omega⟩⟩)
            · refine li_iconst hx hb dX12_isMove_55 ?_
              refine lv_goto (tgt := 60) hx hb dX12_isMove_56 (by decide) ?_
              exact eRz hQ hx hb hr hlk dX12_isMove_60 (.inr rfl) (⟨_, rfl, .inl ⟨rfl, by unfold isT; omega⟩⟩)
  · refine li_if_eq (tgt := 59) hx hb ⟨by decide, by decide⟩ dX12_isMove_9 (by decide) (fun c9 => ?_) (fun c9 => ?_)
    · refine li_iconst hx hb dX12_isMove_59 ?_
      exact eRz hQ hx hb hr hlk dX12_isMove_60 (.inl rfl) (⟨_, rfl, .inr ⟨rfl, fun h => by obtain ⟨q1, q2, q3, q4, q5, q6⟩ := h; omega⟩⟩)
    · exact absurd c9 (by decide)
set_option maxHeartbeats 4000000 in
theorem m_isRopeOnM (l : Launch) (G : va_G) (am : Nat → Nat) (ty : Nat → ClassId) (τ ρ : mem) (cs : va_W) (r1 : Int) (f1 : Int) (F : mem) (hF : okF F) (hSm : Sim F τ) (hSt : wfS (ρ 27) (ρ 28)) (hr1 : 0 ≤ r1 ∧ r1 ≤ 1) (hf1 : rg f1) : cR l yX12_isRopeOn (ws_ yX12_isRopeOn cX12_isRopeOn 3 (some .boolean)) (rm4 0 0 0 0) G ty (wM am ty τ ρ ++ cs) [.ref (am 0), .int (ii r1), .int (ii f1)] (fun r => ∃ (z : Int), r = some (.int (ii z)) ∧ ((z = 1 ∧ (okRope F (ρ 28) r1 f1)) ∨ (z = 0 ∧ (¬ okRope F (ρ 28) r1 f1)))) := by
  refine cR.of (by decide) (Nat.le_of_ble_eq_true rfl) ?_
  intro p e s m args below meth c Q hQ hx hb hr hml hown hlk hts hK hP hD hX ls hl
  have hl : lv_has ls 3 [(0, .ref (am 0)), (1, .int (ii r1)), (2, .int (ii f1))] := hl
  obtain ⟨hW, hWS, hlg⟩ := id hF
  obtain ⟨hw0, hw1, hw2, hw3, hw4, hw5, h8a, h8b, h9a, h9b, h10a, h10b⟩ := id hW
  obtain ⟨mL, mP, mR, mC, mK, mM, mA, mB, mD⟩ := id hSm
  obtain ⟨hs0, hs1⟩ := id hSt
  obtain ⟨hra, hrb⟩ := id hr1
  obtain ⟨hfa, hfb⟩ := id hf1
  refine lv_iload_n hx hb dX12_isRopeOn_0 rfl (lv_at hl 1 rfl) ?_
  refine lv_aload_n hx hb dX12_isRopeOn_1 rfl (lv_at hl 0 rfl) ?_
  refine va_get (D := G) (ci := 11) (v := .int (ii (τ 7 0))) (C := RX12) (T := TX12) (N := 52) hx hb hts in_X12 hown hK hP 0 (aM_0 _ _ _ _ _) rfl 7 (by decide) (hts _ q1272) (fun _ h9 => h9) rfl dX12_isRopeOn_2 ?_
  refine li_icmp_ge (tgt := 22) hx hb ⟨by omega, by omega⟩ ⟨by omega, by omega⟩ dX12_isRopeOn_5 (by decide) (fun c5 => ?_) (fun c5 => ?_)
  · refine li_iconst hx hb dX12_isRopeOn_22 ?_
    exact eRz hQ hx hb hr hlk dX12_isRopeOn_23 (.inl rfl) (⟨0, rfl, .inr ⟨rfl, by unfold okRope; omega⟩⟩)
  · refine lv_aload_n hx hb dX12_isRopeOn_8 rfl (lv_at hl 0 rfl) ?_
    refine va_get (D := G) (ci := 11) (v := .ref (am 17)) (C := RX12) (T := TX12) (N := 52) hx hb hts in_X12 hown hK hP 0 (aM_0 _ _ _ _ _) rfl 28 (by decide) (hts _ q1293) (fun _ h9 => h9) rfl dX12_isRopeOn_9 ?_
    refine lv_iload_n hx hb dX12_isRopeOn_12 rfl (lv_at hl 1 rfl) ?_
    refine li_iald (g := (ρ 28)) hx hb hK hP 17 0 (aM_17 _ _ _ _ _) rfl (by omega) (by omega) (by decide) dX12_isRopeOn_13 ?_
    have r14 := hs1 r1
    refine lv_iload_n hx hb dX12_isRopeOn_14 rfl (lv_at hl 2 rfl) ?_
    refine li_icmp_ne (tgt := 22) hx hb (rgi r14.1 r14.2) hf1 dX12_isRopeOn_15 (by decide) (fun c15 => ?_) (fun c15 => ?_)
    · refine li_iconst hx hb dX12_isRopeOn_22 ?_
      exact eRz hQ hx hb hr hlk dX12_isRopeOn_23 (.inl rfl) (⟨0, rfl, .inr ⟨rfl, by unfold okRope; omega⟩⟩)
    · refine li_iconst hx hb dX12_isRopeOn_18 ?_
      refine lv_goto (tgt := 23) hx hb dX12_isRopeOn_19 (by decide) ?_
      exact eRz hQ hx hb hr hlk dX12_isRopeOn_23 (.inr rfl) (⟨1, rfl, .inl ⟨rfl, by unfold okRope; omega⟩⟩)
set_option maxHeartbeats 4000000 in
theorem m_hasHurtM (l : Launch) (G : va_G) (am : Nat → Nat) (ty : Nat → ClassId) (τ ρ : mem) (cs : va_W) (t1 : Int) (F : mem) (hF : okF F) (hSm : Sim F τ) (hst : 0 ≤ t1 ∧ t1 ≤ 7) : cR l yX12_hasHurt (ws_ yX12_hasHurt cX12_hasHurt 4 (some .boolean)) (rm4 0 0 0 0) G ty (wM am ty τ ρ ++ cs) [.ref (am 0), .int (ii t1)] (fun r => ∃ (z : Int), r = some (.int (ii z)) ∧ ((z = 1 ∧ (hurtIn F t1)) ∨ (z = 0 ∧ (¬ hurtIn F t1)))) := by
  refine cR.of (by decide) (Nat.le_of_ble_eq_true rfl) ?_
  intro p e s m args below meth c Q hQ hx hb hr hml hown hlk hts hK hP hD hX ls hl
  have hl : lv_has ls 4 [(0, .ref (am 0)), (1, .int (ii t1))] := hl
  obtain ⟨hW, hWS, hlg⟩ := id hF
  obtain ⟨hw0, hw1, hw2, hw3, hw4, hw5, h8a, h8b, h9a, h9b, h10a, h10b⟩ := id hW
  obtain ⟨mL, mP, mR, mC, mK, mM, mA, mB, mD⟩ := id hSm
  obtain ⟨ht0, ht1⟩ := id hst
  have hw40 := hw4 0
  have hw41 := hw4 1
  have hw42 := hw4 2
  refine li_iconst hx hb dX12_hasHurt_0 ?_
  refine lv_istore_n (lv' := [(2, .int (ii 0)), (0, .ref (am 0)), (1, .int (ii t1))]) hx hb dX12_hasHurt_1 rfl hl (by decide) rfl (fun ls hl => ?_)
  refine li_iconst hx hb dX12_hasHurt_2 ?_
  refine lv_istore_n (lv' := [(3, .int (ii 0)), (2, .int (ii 0)), (0, .ref (am 0)), (1, .int (ii t1))]) hx hb dX12_hasHurt_3 rfl hl (by decide) rfl (fun ls hl => ?_)
  refine lv_iload_n hx hb dX12_hasHurt_4 rfl (lv_at hl 0 rfl) ?_
  refine lv_aload_n hx hb dX12_hasHurt_5 rfl (lv_at hl 2 rfl) ?_
  refine va_get (D := G) (ci := 11) (v := .int (ii (τ 5 0))) (C := RX12) (T := TX12) (N := 52) hx hb hts in_X12 hown hK hP 0 (aM_0 _ _ _ _ _) rfl 5 (by decide) (hts _ q1270) (fun _ h9 => h9) rfl dX12_hasHurt_6 ?_
  refine li_icmp_ge (tgt := 47) hx hb ⟨by decide, by decide⟩ ⟨by omega, by omega⟩ dX12_hasHurt_9 (by decide) (fun c9 => ?_) (fun c9 => ?_)
  · refine lv_iload_n hx hb dX12_hasHurt_47 rfl (lv_at hl 1 rfl) ?_
    exact eRz hQ hx hb hr hlk dX12_hasHurt_48 (.inl rfl) (⟨0, rfl, by unfold hurtIn; omega⟩)
  · have hB0 := mB 0 (by decide) (by omega)
    refine lv_iload_n hx hb dX12_hasHurt_12 rfl (lv_at hl 1 rfl) ?_
    have J13 : ∀ (y13_0 : Int) (_ : ((¬ (t1 % 2) = 1) ∧ y13_0 = 0) ∨ (((t1 % 2) = 1) ∧ (¬ (τ 6 0) = 2) ∧ y13_0 = 0) ∨ (((t1 % 2) = 1) ∧ ((τ 6 0) = 2) ∧ y13_0 = 1)) (ls : Array Slot), lv_has ls 4 [(3, .int (ii 0)), (2, .int (ii 0)), (0, .ref (am 0)), (1, .int (ii t1))] → W p l e (rm4 0 0 0 0) s m args below meth c s.heap [] 0 0 Q (F0 m 40 ls [.int (ii y13_0)]) := by
      intro y13_0 hj13 ls hl
      refine lv_istore_n (lv' := [(2, .int (ii y13_0)), (3, .int (ii 0)), (0, .ref (am 0)), (1, .int (ii t1))]) hx hb dX12_hasHurt_40 rfl hl (by decide) rfl (fun ls hl => ?_)
      refine li_iinc (a := 0) (lv' := [(3, .int (ii 1)), (2, .int (ii y13_0)), (0, .ref (am 0)), (1, .int (ii t1))]) hx hb dX12_hasHurt_41 hl (k := 1) rfl (by decide) rfl (fun ls hl => ?_)
      refine lv_goto (tgt := 4) hx hb dX12_hasHurt_44 (by decide) ?_
      refine lv_iload_n hx hb dX12_hasHurt_4 rfl (lv_at hl 0 rfl) ?_
      refine lv_aload_n hx hb dX12_hasHurt_5 rfl (lv_at hl 2 rfl) ?_
      refine va_get (D := G) (ci := 11) (v := .int (ii (τ 5 0))) (C := RX12) (T := TX12) (N := 52) hx hb hts in_X12 hown hK hP 0 (aM_0 _ _ _ _ _) rfl 5 (by decide) (hts _ q1270) (fun _ h9 => h9) rfl dX12_hasHurt_6 ?_
      refine li_icmp_ge (tgt := 47) hx hb ⟨by decide, by decide⟩ ⟨by omega, by omega⟩ dX12_hasHurt_9 (by decide) (fun c9 => ?_) (fun c9 => ?_)
      · refine lv_iload_n hx hb dX12_hasHurt_47 rfl (lv_at hl 1 rfl) ?_
        exact eRz hQ hx hb hr hlk dX12_hasHurt_48 (by omega) (⟨y13_0, rfl, by unfold hurtIn; omega⟩)
      · have hB1 := mB 1 (by decide) (by omega)
        refine lv_iload_n hx hb dX12_hasHurt_12 rfl (lv_at hl 1 rfl) ?_
        have J13_1 : ∀ (y13_1_0 : Int) (_ : ((¬ y13_0 = 0) ∧ y13_1_0 = 1) ∨ ((y13_0 = 0) ∧ (¬ ((t1 / 2) % 2) = 1) ∧ y13_1_0 = 0) ∨ ((y13_0 = 0) ∧ (((t1 / 2) % 2) = 1) ∧ (¬ (τ 6 1) = 2) ∧ y13_1_0 = 0) ∨ ((y13_0 = 0) ∧ (((t1 / 2) % 2) = 1) ∧ ((τ 6 1) = 2) ∧ y13_1_0 = 1)) (ls : Array Slot), lv_has ls 4 [(3, .int (ii 1)), (2, .int (ii y13_0)), (0, .ref (am 0)), (1, .int (ii t1))] → W p l e (rm4 0 0 0 0) s m args below meth c s.heap [] 0 0 Q (F0 m 40 ls [.int (ii y13_1_0)]) := by
          intro y13_1_0 hj13_1 ls hl
          refine lv_istore_n (lv' := [(2, .int (ii y13_1_0)), (3, .int (ii 1)), (0, .ref (am 0)), (1, .int (ii t1))]) hx hb dX12_hasHurt_40 rfl hl (by decide) rfl (fun ls hl => ?_)
          refine li_iinc (a := 1) (lv' := [(3, .int (ii 2)), (2, .int (ii y13_1_0)), (0, .ref (am 0)), (1, .int (ii t1))]) hx hb dX12_hasHurt_41 hl (k := 1) rfl (by decide) rfl (fun ls hl => ?_)
          refine lv_goto (tgt := 4) hx hb dX12_hasHurt_44 (by decide) ?_
          refine lv_iload_n hx hb dX12_hasHurt_4 rfl (lv_at hl 0 rfl) ?_
          refine lv_aload_n hx hb dX12_hasHurt_5 rfl (lv_at hl 2 rfl) ?_
          refine va_get (D := G) (ci := 11) (v := .int (ii (τ 5 0))) (C := RX12) (T := TX12) (N := 52) hx hb hts in_X12 hown hK hP 0 (aM_0 _ _ _ _ _) rfl 5 (by decide) (hts _ q1270) (fun _ h9 => h9) rfl dX12_hasHurt_6 ?_
          refine li_icmp_ge (tgt := 47) hx hb ⟨by decide, by decide⟩ ⟨by omega, by omega⟩ dX12_hasHurt_9 (by decide) (fun c9 => ?_) (fun c9 => ?_)
          · refine lv_iload_n hx hb dX12_hasHurt_47 rfl (lv_at hl 1 rfl) ?_
            exact eRz hQ hx hb hr hlk dX12_hasHurt_48 (by omega) (⟨y13_1_0, rfl, by unfold hurtIn; omega⟩)
          · have hB2 := mB 2 (by decide) (by omega)
            refine lv_iload_n hx hb dX12_hasHurt_12 rfl (lv_at hl 1 rfl) ?_
            have J13_2 : ∀ (y13_2_0 : Int) (_ : ((¬ y13_1_0 = 0) ∧ y13_2_0 = 1) ∨ ((y13_1_0 = 0) ∧ (¬ ((t1 / 4) % 2) = 1) ∧ y13_2_0 = 0) ∨ ((y13_1_0 = 0) ∧ (((t1 / 4) % 2) = 1) ∧ (¬ (τ 6 2) = 2) ∧ y13_2_0 = 0) ∨ ((y13_1_0 = 0) ∧ (((t1 / 4) % 2) = 1) ∧ ((τ 6 2) = 2) ∧ y13_2_0 = 1)) (ls : Array Slot), lv_has ls 4 [(3, .int (ii 2)), (2, .int (ii y13_1_0)), (0, .ref (am 0)), (1, .int (ii t1))] → W p l e (rm4 0 0 0 0) s m args below meth c s.heap [] 0 0 Q (F0 m 40 ls [.int (ii y13_2_0)]) := by
              intro y13_2_0 hj13_2 ls hl
              refine lv_istore_n (lv' := [(2, .int (ii y13_2_0)), (3, .int (ii 2)), (0, .ref (am 0)), (1, .int (ii t1))]) hx hb dX12_hasHurt_40 rfl hl (by decide) rfl (fun ls hl => ?_)
              refine li_iinc (a := 2) (lv' := [(3, .int (ii 3)), (2, .int (ii y13_2_0)), (0, .ref (am 0)), (1, .int (ii t1))]) hx hb dX12_hasHurt_41 hl (k := 1) rfl (by decide) rfl (fun ls hl => ?_)
              refine lv_goto (tgt := 4) hx hb dX12_hasHurt_44 (by decide) ?_
              refine lv_iload_n hx hb dX12_hasHurt_4 rfl (lv_at hl 0 rfl) ?_
              refine lv_aload_n hx hb dX12_hasHurt_5 rfl (lv_at hl 2 rfl) ?_
              refine va_get (D := G) (ci := 11) (v := .int (ii (τ 5 0))) (C := RX12) (T := TX12) (N := 52) hx hb hts in_X12 hown hK hP 0 (aM_0 _ _ _ _ _) rfl 5 (by decide) (hts _ q1270) (fun _ h9 => h9) rfl dX12_hasHurt_6 ?_
              refine li_icmp_ge (tgt := 47) hx hb ⟨by decide, by decide⟩ ⟨by omega, by omega⟩ dX12_hasHurt_9 (by decide) (fun c9 => ?_) (fun c9 => ?_)
              · refine lv_iload_n hx hb dX12_hasHurt_47 rfl (lv_at hl 1 rfl) ?_
                exact eRz hQ hx hb hr hlk dX12_hasHurt_48 (by omega) (⟨y13_2_0, rfl, by unfold hurtIn; omega⟩)
              · exfalso
                omega
            refine li_if_ne (tgt := 35) hx hb ⟨by omega, by omega⟩ dX12_hasHurt_13 (by decide) (fun c13 => ?_) (fun c13 => ?_)
            · refine li_iconst hx hb dX12_hasHurt_35 ?_
              refine lv_goto (tgt := 40) hx hb dX12_hasHurt_36 (by decide) ?_
              exact J13_2 _ (.inl (⟨c13, rfl⟩)) ls (lv_sub hl [0, 1, 2, 3] rfl)
            · refine lv_iload_n hx hb dX12_hasHurt_16 rfl (lv_at hl 3 rfl) ?_
              refine lv_iload_n hx hb dX12_hasHurt_17 rfl (lv_at hl 0 rfl) ?_
              refine lv_ishr hx hb dX12_hasHurt_18 ?_
              refine li_topx (z := t1 / 4) (ii_shr2 (by omega) (by omega)) ?_
              refine li_iconst hx hb dX12_hasHurt_19 ?_
              refine lv_iand hx hb dX12_hasHurt_20 ?_
              refine li_topx (z := (t1 / 4) % 2) (ii_and1 (by omega) (by omega)) ?_
              refine li_iconst hx hb dX12_hasHurt_21 ?_
              refine li_icmp_ne (tgt := 39) hx hb ⟨by omega, by omega⟩ ⟨by decide, by decide⟩ dX12_hasHurt_22 (by decide) (fun c22 => ?_) (fun c22 => ?_)
              · refine li_iconst hx hb dX12_hasHurt_39 ?_
                exact J13_2 _ (.inr (.inl (⟨c13, c22, rfl⟩))) ls (lv_sub hl [0, 1, 2, 3] rfl)
              · refine lv_aload_n hx hb dX12_hasHurt_25 rfl (lv_at hl 2 rfl) ?_
                refine va_get (D := G) (ci := 11) (v := .ref (am 5)) (C := RX12) (T := TX12) (N := 52) hx hb hts in_X12 hown hK hP 0 (aM_0 _ _ _ _ _) rfl 6 (by decide) (hts _ q1271) (fun _ h9 => h9) rfl dX12_hasHurt_26 ?_
                refine lv_iload_n hx hb dX12_hasHurt_29 rfl (lv_at hl 0 rfl) ?_
                refine li_iald (g := (τ 6)) hx hb hK hP 5 0 (aM_5 _ _ _ _ _) rfl (by decide) (by decide) (by decide) dX12_hasHurt_30 ?_
                refine li_iconst hx hb dX12_hasHurt_31 ?_
                refine li_icmp_ne (tgt := 39) hx hb ⟨by omega, by omega⟩ ⟨by decide, by decide⟩ dX12_hasHurt_32 (by decide) (fun c32 => ?_) (fun c32 => ?_)
                · refine li_iconst hx hb dX12_hasHurt_39 ?_
                  exact J13_2 _ (.inr (.inr (.inl (⟨c13, c22, c32, rfl⟩)))) ls (lv_sub hl [0, 1, 2, 3] rfl)
                · refine li_iconst hx hb dX12_hasHurt_35 ?_
                  refine lv_goto (tgt := 40) hx hb dX12_hasHurt_36 (by decide) ?_
                  exact J13_2 _ (.inr (.inr (.inr (⟨c13, c22, c32, rfl⟩)))) ls (lv_sub hl [0, 1, 2, 3] rfl)
        refine li_if_ne (tgt := 35) hx hb ⟨by omega, by omega⟩ dX12_hasHurt_13 (by decide) (fun c13 => ?_) (fun c13 => ?_)
        · refine li_iconst hx hb dX12_hasHurt_35 ?_
          refine lv_goto (tgt := 40) hx hb dX12_hasHurt_36 (by decide) ?_
          exact J13_1 _ (.inl (⟨c13, rfl⟩)) ls (lv_sub hl [0, 1, 2, 3] rfl)
        · refine lv_iload_n hx hb dX12_hasHurt_16 rfl (lv_at hl 3 rfl) ?_
          refine lv_iload_n hx hb dX12_hasHurt_17 rfl (lv_at hl 0 rfl) ?_
          refine lv_ishr hx hb dX12_hasHurt_18 ?_
          refine li_topx (z := t1 / 2) (ii_shr1 (by omega) (by omega)) ?_
          refine li_iconst hx hb dX12_hasHurt_19 ?_
          refine lv_iand hx hb dX12_hasHurt_20 ?_
          refine li_topx (z := (t1 / 2) % 2) (ii_and1 (by omega) (by omega)) ?_
          refine li_iconst hx hb dX12_hasHurt_21 ?_
          refine li_icmp_ne (tgt := 39) hx hb ⟨by omega, by omega⟩ ⟨by decide, by decide⟩ dX12_hasHurt_22 (by decide) (fun c22 => ?_) (fun c22 => ?_)
          · refine li_iconst hx hb dX12_hasHurt_39 ?_
            exact J13_1 _ (.inr (.inl (⟨c13, c22, rfl⟩))) ls (lv_sub hl [0, 1, 2, 3] rfl)
          · refine lv_aload_n hx hb dX12_hasHurt_25 rfl (lv_at hl 2 rfl) ?_
            refine va_get (D := G) (ci := 11) (v := .ref (am 5)) (C := RX12) (T := TX12) (N := 52) hx hb hts in_X12 hown hK hP 0 (aM_0 _ _ _ _ _) rfl 6 (by decide) (hts _ q1271) (fun _ h9 => h9) rfl dX12_hasHurt_26 ?_
            refine lv_iload_n hx hb dX12_hasHurt_29 rfl (lv_at hl 0 rfl) ?_
            refine li_iald (g := (τ 6)) hx hb hK hP 5 0 (aM_5 _ _ _ _ _) rfl (by decide) (by decide) (by decide) dX12_hasHurt_30 ?_
            refine li_iconst hx hb dX12_hasHurt_31 ?_
            refine li_icmp_ne (tgt := 39) hx hb ⟨by omega, by omega⟩ ⟨by decide, by decide⟩ dX12_hasHurt_32 (by decide) (fun c32 => ?_) (fun c32 => ?_)
            · refine li_iconst hx hb dX12_hasHurt_39 ?_
              exact J13_1 _ (.inr (.inr (.inl (⟨c13, c22, c32, rfl⟩)))) ls (lv_sub hl [0, 1, 2, 3] rfl)
            · refine li_iconst hx hb dX12_hasHurt_35 ?_
              refine lv_goto (tgt := 40) hx hb dX12_hasHurt_36 (by decide) ?_
              exact J13_1 _ (.inr (.inr (.inr (⟨c13, c22, c32, rfl⟩)))) ls (lv_sub hl [0, 1, 2, 3] rfl)
    refine li_if_ne (tgt := 35) hx hb ⟨by decide, by decide⟩ dX12_hasHurt_13 (by decide) (fun c13 => ?_) (fun c13 => ?_)
    · exact absurd c13 (by decide)
    · refine lv_iload_n hx hb dX12_hasHurt_16 rfl (lv_at hl 3 rfl) ?_
      refine lv_iload_n hx hb dX12_hasHurt_17 rfl (lv_at hl 0 rfl) ?_
      refine lv_ishr hx hb dX12_hasHurt_18 ?_
      refine li_topx (z := t1) (ii_shr0 (by omega) (by omega)) ?_
      refine li_iconst hx hb dX12_hasHurt_19 ?_
      refine lv_iand hx hb dX12_hasHurt_20 ?_
      refine li_topx (z := t1 % 2) (ii_and1 (by omega) (by omega)) ?_
      refine li_iconst hx hb dX12_hasHurt_21 ?_
      refine li_icmp_ne (tgt := 39) hx hb ⟨by omega, by omega⟩ ⟨by decide, by decide⟩ dX12_hasHurt_22 (by decide) (fun c22 => ?_) (fun c22 => ?_)
      · refine li_iconst hx hb dX12_hasHurt_39 ?_
        exact J13 _ (.inl (⟨c22, rfl⟩)) ls (lv_sub hl [0, 1, 2, 3] rfl)
      · refine lv_aload_n hx hb dX12_hasHurt_25 rfl (lv_at hl 2 rfl) ?_
        refine va_get (D := G) (ci := 11) (v := .ref (am 5)) (C := RX12) (T := TX12) (N := 52) hx hb hts in_X12 hown hK hP 0 (aM_0 _ _ _ _ _) rfl 6 (by decide) (hts _ q1271) (fun _ h9 => h9) rfl dX12_hasHurt_26 ?_
        refine lv_iload_n hx hb dX12_hasHurt_29 rfl (lv_at hl 0 rfl) ?_
        refine li_iald (g := (τ 6)) hx hb hK hP 5 0 (aM_5 _ _ _ _ _) rfl (by decide) (by decide) (by decide) dX12_hasHurt_30 ?_
        refine li_iconst hx hb dX12_hasHurt_31 ?_
        refine li_icmp_ne (tgt := 39) hx hb ⟨by omega, by omega⟩ ⟨by decide, by decide⟩ dX12_hasHurt_32 (by decide) (fun c32 => ?_) (fun c32 => ?_)
        · refine li_iconst hx hb dX12_hasHurt_39 ?_
          exact J13 _ (.inr (.inl (⟨c22, c32, rfl⟩))) ls (lv_sub hl [0, 1, 2, 3] rfl)
        · refine li_iconst hx hb dX12_hasHurt_35 ?_
          refine lv_goto (tgt := 40) hx hb dX12_hasHurt_36 (by decide) ?_
          exact J13 _ (.inr (.inr (⟨c22, c32, rfl⟩))) ls (lv_sub hl [0, 1, 2, 3] rfl)
set_option maxHeartbeats 4000000 in
theorem m_isHelpedM (l : Launch) (G : va_G) (am : Nat → Nat) (ty : Nat → ClassId) (τ ρ : mem) (cs : va_W) (f1 : Int) (t1 : Int) (F : mem) (hF : okF F) (hSm : Sim F τ) (hSt : wfS (ρ 27) (ρ 28)) (hst : 0 ≤ t1 ∧ t1 ≤ 7) (hf1 : rg f1) : cR l yX12_isHelped (ws_ yX12_isHelped cX12_isHelped 5 (some .boolean)) (rm4 0 0 0 0) G ty (wM am ty τ ρ ++ cs) [.ref (am 0), .int (ii f1), .int (ii t1)] (fun r => ∃ (z : Int), r = some (.int (ii z)) ∧ ((z = 1 ∧ (okHelp F (ρ 27) t1 f1)) ∨ (z = 0 ∧ (¬ okHelp F (ρ 27) t1 f1)))) := by
  refine cR.of (by decide) (Nat.le_of_ble_eq_true rfl) ?_
  intro p e s m args below meth c Q hQ hx hb hr hml hown hlk hts hK hP hD hX ls hl
  have hl : lv_has ls 5 [(0, .ref (am 0)), (1, .int (ii f1)), (2, .int (ii t1))] := hl
  obtain ⟨hW, hWS, hlg⟩ := id hF
  obtain ⟨hw0, hw1, hw2, hw3, hw4, hw5, h8a, h8b, h9a, h9b, h10a, h10b⟩ := id hW
  obtain ⟨mL, mP, mR, mC, mK, mM, mA, mB, mD⟩ := id hSm
  obtain ⟨hs0, hs1⟩ := id hSt
  obtain ⟨ht0, ht1⟩ := id hst
  obtain ⟨hfa, hfb⟩ := id hf1
  have hw40 := hw4 0
  have hw41 := hw4 1
  have hw42 := hw4 2
  refine li_iconst hx hb dX12_isHelped_0 ?_
  refine lv_istore_n (lv' := [(3, .int (ii 0)), (0, .ref (am 0)), (1, .int (ii f1)), (2, .int (ii t1))]) hx hb dX12_isHelped_1 rfl hl (by decide) rfl (fun ls hl => ?_)
  refine li_iconst hx hb dX12_isHelped_2 ?_
  refine lv_istore (lv' := [(4, .int (ii 0)), (3, .int (ii 0)), (0, .ref (am 0)), (1, .int (ii f1)), (2, .int (ii t1))]) hx hb dX12_isHelped_3 hl (by decide) rfl (fun ls hl => ?_)
  refine lv_iload hx hb dX12_isHelped_5 (lv_at hl 0 rfl) ?_
  refine lv_aload_n hx hb dX12_isHelped_7 rfl (lv_at hl 2 rfl) ?_
  refine va_get (D := G) (ci := 11) (v := .int (ii (τ 5 0))) (C := RX12) (T := TX12) (N := 52) hx hb hts in_X12 hown hK hP 0 (aM_0 _ _ _ _ _) rfl 5 (by decide) (hts _ q1270) (fun _ h9 => h9) rfl dX12_isHelped_8 ?_
  refine li_icmp_ge (tgt := 61) hx hb ⟨by decide, by decide⟩ ⟨by omega, by omega⟩ dX12_isHelped_11 (by decide) (fun c11 => ?_) (fun c11 => ?_)
  · refine lv_iload_n hx hb dX12_isHelped_61 rfl (lv_at hl 1 rfl) ?_
    exact eRz hQ hx hb hr hlk dX12_isHelped_62 (.inl rfl) (⟨0, rfl, by unfold okHelp; omega⟩)
  · have hB0 := mB 0 (by decide) (by omega)
    refine lv_iload_n hx hb dX12_isHelped_14 rfl (lv_at hl 1 rfl) ?_
    have J15 : ∀ (y15_0 : Int) (_ : ((¬ (t1 % 2) = 0) ∧ y15_0 = 0) ∨ (((t1 % 2) = 0) ∧ ((τ 6 0) = 2) ∧ y15_0 = 0) ∨ (((t1 % 2) = 0) ∧ (¬ (τ 6 0) = 2) ∧ (¬ (ρ 27 0) = f1) ∧ y15_0 = 0) ∨ (((t1 % 2) = 0) ∧ (¬ (τ 6 0) = 2) ∧ ((ρ 27 0) = f1) ∧ y15_0 = 1)) (ls : Array Slot), lv_has ls 5 [(4, .int (ii 0)), (3, .int (ii 0)), (0, .ref (am 0)), (1, .int (ii f1)), (2, .int (ii t1))] → W p l e (rm4 0 0 0 0) s m args below meth c s.heap [] 0 0 Q (F0 m 54 ls [.int (ii y15_0)]) := by
      intro y15_0 hj15 ls hl
      refine lv_istore_n (lv' := [(3, .int (ii y15_0)), (4, .int (ii 0)), (0, .ref (am 0)), (1, .int (ii f1)), (2, .int (ii t1))]) hx hb dX12_isHelped_54 rfl hl (by decide) rfl (fun ls hl => ?_)
      refine li_iinc (a := 0) (lv' := [(4, .int (ii 1)), (3, .int (ii y15_0)), (0, .ref (am 0)), (1, .int (ii f1)), (2, .int (ii t1))]) hx hb dX12_isHelped_55 hl (k := 1) rfl (by decide) rfl (fun ls hl => ?_)
      refine lv_goto (tgt := 5) hx hb dX12_isHelped_58 (by decide) ?_
      refine lv_iload hx hb dX12_isHelped_5 (lv_at hl 0 rfl) ?_
      refine lv_aload_n hx hb dX12_isHelped_7 rfl (lv_at hl 2 rfl) ?_
      refine va_get (D := G) (ci := 11) (v := .int (ii (τ 5 0))) (C := RX12) (T := TX12) (N := 52) hx hb hts in_X12 hown hK hP 0 (aM_0 _ _ _ _ _) rfl 5 (by decide) (hts _ q1270) (fun _ h9 => h9) rfl dX12_isHelped_8 ?_
      refine li_icmp_ge (tgt := 61) hx hb ⟨by decide, by decide⟩ ⟨by omega, by omega⟩ dX12_isHelped_11 (by decide) (fun c11 => ?_) (fun c11 => ?_)
      · refine lv_iload_n hx hb dX12_isHelped_61 rfl (lv_at hl 1 rfl) ?_
        exact eRz hQ hx hb hr hlk dX12_isHelped_62 (by omega) (⟨y15_0, rfl, by unfold okHelp; omega⟩)
      · have hB1 := mB 1 (by decide) (by omega)
        refine lv_iload_n hx hb dX12_isHelped_14 rfl (lv_at hl 1 rfl) ?_
        have J15_1 : ∀ (y15_1_0 : Int) (_ : ((¬ y15_0 = 0) ∧ y15_1_0 = 1) ∨ ((y15_0 = 0) ∧ (¬ ((t1 / 2) % 2) = 0) ∧ y15_1_0 = 0) ∨ ((y15_0 = 0) ∧ (((t1 / 2) % 2) = 0) ∧ ((τ 6 1) = 2) ∧ y15_1_0 = 0) ∨ ((y15_0 = 0) ∧ (((t1 / 2) % 2) = 0) ∧ (¬ (τ 6 1) = 2) ∧ (¬ (ρ 27 1) = f1) ∧ y15_1_0 = 0) ∨ ((y15_0 = 0) ∧ (((t1 / 2) % 2) = 0) ∧ (¬ (τ 6 1) = 2) ∧ ((ρ 27 1) = f1) ∧ y15_1_0 = 1)) (ls : Array Slot), lv_has ls 5 [(4, .int (ii 1)), (3, .int (ii y15_0)), (0, .ref (am 0)), (1, .int (ii f1)), (2, .int (ii t1))] → W p l e (rm4 0 0 0 0) s m args below meth c s.heap [] 0 0 Q (F0 m 54 ls [.int (ii y15_1_0)]) := by
          intro y15_1_0 hj15_1 ls hl
          refine lv_istore_n (lv' := [(3, .int (ii y15_1_0)), (4, .int (ii 1)), (0, .ref (am 0)), (1, .int (ii f1)), (2, .int (ii t1))]) hx hb dX12_isHelped_54 rfl hl (by decide) rfl (fun ls hl => ?_)
          refine li_iinc (a := 1) (lv' := [(4, .int (ii 2)), (3, .int (ii y15_1_0)), (0, .ref (am 0)), (1, .int (ii f1)), (2, .int (ii t1))]) hx hb dX12_isHelped_55 hl (k := 1) rfl (by decide) rfl (fun ls hl => ?_)
          refine lv_goto (tgt := 5) hx hb dX12_isHelped_58 (by decide) ?_
          refine lv_iload hx hb dX12_isHelped_5 (lv_at hl 0 rfl) ?_
          refine lv_aload_n hx hb dX12_isHelped_7 rfl (lv_at hl 2 rfl) ?_
          refine va_get (D := G) (ci := 11) (v := .int (ii (τ 5 0))) (C := RX12) (T := TX12) (N := 52) hx hb hts in_X12 hown hK hP 0 (aM_0 _ _ _ _ _) rfl 5 (by decide) (hts _ q1270) (fun _ h9 => h9) rfl dX12_isHelped_8 ?_
          refine li_icmp_ge (tgt := 61) hx hb ⟨by decide, by decide⟩ ⟨by omega, by omega⟩ dX12_isHelped_11 (by decide) (fun c11 => ?_) (fun c11 => ?_)
          · refine lv_iload_n hx hb dX12_isHelped_61 rfl (lv_at hl 1 rfl) ?_
            exact eRz hQ hx hb hr hlk dX12_isHelped_62 (by omega) (⟨y15_1_0, rfl, by unfold okHelp; omega⟩)
          · have hB2 := mB 2 (by decide) (by omega)
            refine lv_iload_n hx hb dX12_isHelped_14 rfl (lv_at hl 1 rfl) ?_
            have J15_2 : ∀ (y15_2_0 : Int) (_ : ((¬ y15_1_0 = 0) ∧ y15_2_0 = 1) ∨ ((y15_1_0 = 0) ∧ (¬ ((t1 / 4) % 2) = 0) ∧ y15_2_0 = 0) ∨ ((y15_1_0 = 0) ∧ (((t1 / 4) % 2) = 0) ∧ ((τ 6 2) = 2) ∧ y15_2_0 = 0) ∨ ((y15_1_0 = 0) ∧ (((t1 / 4) % 2) = 0) ∧ (¬ (τ 6 2) = 2) ∧ (¬ (ρ 27 2) = f1) ∧ y15_2_0 = 0) ∨ ((y15_1_0 = 0) ∧ (((t1 / 4) % 2) = 0) ∧ (¬ (τ 6 2) = 2) ∧ ((ρ 27 2) = f1) ∧ y15_2_0 = 1)) (ls : Array Slot), lv_has ls 5 [(4, .int (ii 2)), (3, .int (ii y15_1_0)), (0, .ref (am 0)), (1, .int (ii f1)), (2, .int (ii t1))] → W p l e (rm4 0 0 0 0) s m args below meth c s.heap [] 0 0 Q (F0 m 54 ls [.int (ii y15_2_0)]) := by
              intro y15_2_0 hj15_2 ls hl
              refine lv_istore_n (lv' := [(3, .int (ii y15_2_0)), (4, .int (ii 2)), (0, .ref (am 0)), (1, .int (ii f1)), (2, .int (ii t1))]) hx hb dX12_isHelped_54 rfl hl (by decide) rfl (fun ls hl => ?_)
              refine li_iinc (a := 2) (lv' := [(4, .int (ii 3)), (3, .int (ii y15_2_0)), (0, .ref (am 0)), (1, .int (ii f1)), (2, .int (ii t1))]) hx hb dX12_isHelped_55 hl (k := 1) rfl (by decide) rfl (fun ls hl => ?_)
              refine lv_goto (tgt := 5) hx hb dX12_isHelped_58 (by decide) ?_
              refine lv_iload hx hb dX12_isHelped_5 (lv_at hl 0 rfl) ?_
              refine lv_aload_n hx hb dX12_isHelped_7 rfl (lv_at hl 2 rfl) ?_
              refine va_get (D := G) (ci := 11) (v := .int (ii (τ 5 0))) (C := RX12) (T := TX12) (N := 52) hx hb hts in_X12 hown hK hP 0 (aM_0 _ _ _ _ _) rfl 5 (by decide) (hts _ q1270) (fun _ h9 => h9) rfl dX12_isHelped_8 ?_
              refine li_icmp_ge (tgt := 61) hx hb ⟨by decide, by decide⟩ ⟨by omega, by omega⟩ dX12_isHelped_11 (by decide) (fun c11 => ?_) (fun c11 => ?_)
              · refine lv_iload_n hx hb dX12_isHelped_61 rfl (lv_at hl 1 rfl) ?_
                exact eRz hQ hx hb hr hlk dX12_isHelped_62 (by omega) (⟨y15_2_0, rfl, by unfold okHelp; omega⟩)
              · exfalso
                omega
            refine li_if_ne (tgt := 49) hx hb ⟨by omega, by omega⟩ dX12_isHelped_15 (by decide) (fun c15 => ?_) (fun c15 => ?_)
            · refine li_iconst hx hb dX12_isHelped_49 ?_
              refine lv_goto (tgt := 54) hx hb dX12_isHelped_50 (by decide) ?_
              exact J15_2 _ (.inl (⟨c15, rfl⟩)) ls (lv_sub hl [0, 1, 2, 3, 4] rfl)
            · refine lv_iload_n hx hb dX12_isHelped_18 rfl (lv_at hl 4 rfl) ?_
              refine lv_iload hx hb dX12_isHelped_19 (lv_at hl 0 rfl) ?_
              refine lv_ishr hx hb dX12_isHelped_21 ?_
              refine li_topx (z := t1 / 4) (ii_shr2 (by omega) (by omega)) ?_
              refine li_iconst hx hb dX12_isHelped_22 ?_
              refine lv_iand hx hb dX12_isHelped_23 ?_
              refine li_topx (z := (t1 / 4) % 2) (ii_and1 (by omega) (by omega)) ?_
              refine li_if_ne (tgt := 53) hx hb ⟨by omega, by omega⟩ dX12_isHelped_24 (by decide) (fun c24 => ?_) (fun c24 => ?_)
              · refine li_iconst hx hb dX12_isHelped_53 ?_
                exact J15_2 _ (.inr (.inl (⟨c15, c24, rfl⟩))) ls (lv_sub hl [0, 1, 2, 3, 4] rfl)
              · refine lv_aload_n hx hb dX12_isHelped_27 rfl (lv_at hl 2 rfl) ?_
                refine va_get (D := G) (ci := 11) (v := .ref (am 5)) (C := RX12) (T := TX12) (N := 52) hx hb hts in_X12 hown hK hP 0 (aM_0 _ _ _ _ _) rfl 6 (by decide) (hts _ q1271) (fun _ h9 => h9) rfl dX12_isHelped_28 ?_
                refine lv_iload hx hb dX12_isHelped_31 (lv_at hl 0 rfl) ?_
                refine li_iald (g := (τ 6)) hx hb hK hP 5 0 (aM_5 _ _ _ _ _) rfl (by decide) (by decide) (by decide) dX12_isHelped_33 ?_
                refine li_iconst hx hb dX12_isHelped_34 ?_
                refine li_icmp_eq (tgt := 53) hx hb ⟨by omega, by omega⟩ ⟨by decide, by decide⟩ dX12_isHelped_35 (by decide) (fun c35 => ?_) (fun c35 => ?_)
                · refine li_iconst hx hb dX12_isHelped_53 ?_
                  exact J15_2 _ (.inr (.inr (.inl (⟨c15, c24, c35, rfl⟩)))) ls (lv_sub hl [0, 1, 2, 3, 4] rfl)
                · refine lv_aload_n hx hb dX12_isHelped_38 rfl (lv_at hl 2 rfl) ?_
                  refine va_get (D := G) (ci := 11) (v := .ref (am 16)) (C := RX12) (T := TX12) (N := 52) hx hb hts in_X12 hown hK hP 0 (aM_0 _ _ _ _ _) rfl 27 (by decide) (hts _ q1292) (fun _ h9 => h9) rfl dX12_isHelped_39 ?_
                  refine lv_iload hx hb dX12_isHelped_42 (lv_at hl 0 rfl) ?_
                  refine li_iald (g := (ρ 27)) hx hb hK hP 16 0 (aM_16 _ _ _ _ _) rfl (by decide) (by decide) (by decide) dX12_isHelped_44 ?_
                  have r45 := hs0 2
                  refine lv_iload_n hx hb dX12_isHelped_45 rfl (lv_at hl 3 rfl) ?_
                  refine li_icmp_ne (tgt := 53) hx hb (rgi r45.1 r45.2) hf1 dX12_isHelped_46 (by decide) (fun c46 => ?_) (fun c46 => ?_)
                  · refine li_iconst hx hb dX12_isHelped_53 ?_
                    exact J15_2 _ (.inr (.inr (.inr (.inl (⟨c15, c24, c35, c46, rfl⟩))))) ls (lv_sub hl [0, 1, 2, 3, 4] rfl)
                  · refine li_iconst hx hb dX12_isHelped_49 ?_
                    refine lv_goto (tgt := 54) hx hb dX12_isHelped_50 (by decide) ?_
                    exact J15_2 _ (.inr (.inr (.inr (.inr (⟨c15, c24, c35, c46, rfl⟩))))) ls (lv_sub hl [0, 1, 2, 3, 4] rfl)
        refine li_if_ne (tgt := 49) hx hb ⟨by omega, by omega⟩ dX12_isHelped_15 (by decide) (fun c15 => ?_) (fun c15 => ?_)
        · refine li_iconst hx hb dX12_isHelped_49 ?_
          refine lv_goto (tgt := 54) hx hb dX12_isHelped_50 (by decide) ?_
          exact J15_1 _ (.inl (⟨c15, rfl⟩)) ls (lv_sub hl [0, 1, 2, 3, 4] rfl)
        · refine lv_iload_n hx hb dX12_isHelped_18 rfl (lv_at hl 4 rfl) ?_
          refine lv_iload hx hb dX12_isHelped_19 (lv_at hl 0 rfl) ?_
          refine lv_ishr hx hb dX12_isHelped_21 ?_
          refine li_topx (z := t1 / 2) (ii_shr1 (by omega) (by omega)) ?_
          refine li_iconst hx hb dX12_isHelped_22 ?_
          refine lv_iand hx hb dX12_isHelped_23 ?_
          refine li_topx (z := (t1 / 2) % 2) (ii_and1 (by omega) (by omega)) ?_
          refine li_if_ne (tgt := 53) hx hb ⟨by omega, by omega⟩ dX12_isHelped_24 (by decide) (fun c24 => ?_) (fun c24 => ?_)
          · refine li_iconst hx hb dX12_isHelped_53 ?_
            exact J15_1 _ (.inr (.inl (⟨c15, c24, rfl⟩))) ls (lv_sub hl [0, 1, 2, 3, 4] rfl)
          · refine lv_aload_n hx hb dX12_isHelped_27 rfl (lv_at hl 2 rfl) ?_
            refine va_get (D := G) (ci := 11) (v := .ref (am 5)) (C := RX12) (T := TX12) (N := 52) hx hb hts in_X12 hown hK hP 0 (aM_0 _ _ _ _ _) rfl 6 (by decide) (hts _ q1271) (fun _ h9 => h9) rfl dX12_isHelped_28 ?_
            refine lv_iload hx hb dX12_isHelped_31 (lv_at hl 0 rfl) ?_
            refine li_iald (g := (τ 6)) hx hb hK hP 5 0 (aM_5 _ _ _ _ _) rfl (by decide) (by decide) (by decide) dX12_isHelped_33 ?_
            refine li_iconst hx hb dX12_isHelped_34 ?_
            refine li_icmp_eq (tgt := 53) hx hb ⟨by omega, by omega⟩ ⟨by decide, by decide⟩ dX12_isHelped_35 (by decide) (fun c35 => ?_) (fun c35 => ?_)
            · refine li_iconst hx hb dX12_isHelped_53 ?_
              exact J15_1 _ (.inr (.inr (.inl (⟨c15, c24, c35, rfl⟩)))) ls (lv_sub hl [0, 1, 2, 3, 4] rfl)
            · refine lv_aload_n hx hb dX12_isHelped_38 rfl (lv_at hl 2 rfl) ?_
              refine va_get (D := G) (ci := 11) (v := .ref (am 16)) (C := RX12) (T := TX12) (N := 52) hx hb hts in_X12 hown hK hP 0 (aM_0 _ _ _ _ _) rfl 27 (by decide) (hts _ q1292) (fun _ h9 => h9) rfl dX12_isHelped_39 ?_
              refine lv_iload hx hb dX12_isHelped_42 (lv_at hl 0 rfl) ?_
              refine li_iald (g := (ρ 27)) hx hb hK hP 16 0 (aM_16 _ _ _ _ _) rfl (by decide) (by decide) (by decide) dX12_isHelped_44 ?_
              have r45 := hs0 1
              refine lv_iload_n hx hb dX12_isHelped_45 rfl (lv_at hl 3 rfl) ?_
              refine li_icmp_ne (tgt := 53) hx hb (rgi r45.1 r45.2) hf1 dX12_isHelped_46 (by decide) (fun c46 => ?_) (fun c46 => ?_)
              · refine li_iconst hx hb dX12_isHelped_53 ?_
                exact J15_1 _ (.inr (.inr (.inr (.inl (⟨c15, c24, c35, c46, rfl⟩))))) ls (lv_sub hl [0, 1, 2, 3, 4] rfl)
              · refine li_iconst hx hb dX12_isHelped_49 ?_
                refine lv_goto (tgt := 54) hx hb dX12_isHelped_50 (by decide) ?_
                exact J15_1 _ (.inr (.inr (.inr (.inr (⟨c15, c24, c35, c46, rfl⟩))))) ls (lv_sub hl [0, 1, 2, 3, 4] rfl)
    refine li_if_ne (tgt := 49) hx hb ⟨by decide, by decide⟩ dX12_isHelped_15 (by decide) (fun c15 => ?_) (fun c15 => ?_)
    · exact absurd c15 (by decide)
    · refine lv_iload_n hx hb dX12_isHelped_18 rfl (lv_at hl 4 rfl) ?_
      refine lv_iload hx hb dX12_isHelped_19 (lv_at hl 0 rfl) ?_
      refine lv_ishr hx hb dX12_isHelped_21 ?_
      refine li_topx (z := t1) (ii_shr0 (by omega) (by omega)) ?_
      refine li_iconst hx hb dX12_isHelped_22 ?_
      refine lv_iand hx hb dX12_isHelped_23 ?_
      refine li_topx (z := t1 % 2) (ii_and1 (by omega) (by omega)) ?_
      refine li_if_ne (tgt := 53) hx hb ⟨by omega, by omega⟩ dX12_isHelped_24 (by decide) (fun c24 => ?_) (fun c24 => ?_)
      · refine li_iconst hx hb dX12_isHelped_53 ?_
        exact J15 _ (.inl (⟨c24, rfl⟩)) ls (lv_sub hl [0, 1, 2, 3, 4] rfl)
      · refine lv_aload_n hx hb dX12_isHelped_27 rfl (lv_at hl 2 rfl) ?_
        refine va_get (D := G) (ci := 11) (v := .ref (am 5)) (C := RX12) (T := TX12) (N := 52) hx hb hts in_X12 hown hK hP 0 (aM_0 _ _ _ _ _) rfl 6 (by decide) (hts _ q1271) (fun _ h9 => h9) rfl dX12_isHelped_28 ?_
        refine lv_iload hx hb dX12_isHelped_31 (lv_at hl 0 rfl) ?_
        refine li_iald (g := (τ 6)) hx hb hK hP 5 0 (aM_5 _ _ _ _ _) rfl (by decide) (by decide) (by decide) dX12_isHelped_33 ?_
        refine li_iconst hx hb dX12_isHelped_34 ?_
        refine li_icmp_eq (tgt := 53) hx hb ⟨by omega, by omega⟩ ⟨by decide, by decide⟩ dX12_isHelped_35 (by decide) (fun c35 => ?_) (fun c35 => ?_)
        · refine li_iconst hx hb dX12_isHelped_53 ?_
          exact J15 _ (.inr (.inl (⟨c24, c35, rfl⟩))) ls (lv_sub hl [0, 1, 2, 3, 4] rfl)
        · refine lv_aload_n hx hb dX12_isHelped_38 rfl (lv_at hl 2 rfl) ?_
          refine va_get (D := G) (ci := 11) (v := .ref (am 16)) (C := RX12) (T := TX12) (N := 52) hx hb hts in_X12 hown hK hP 0 (aM_0 _ _ _ _ _) rfl 27 (by decide) (hts _ q1292) (fun _ h9 => h9) rfl dX12_isHelped_39 ?_
          refine lv_iload hx hb dX12_isHelped_42 (lv_at hl 0 rfl) ?_
          refine li_iald (g := (ρ 27)) hx hb hK hP 16 0 (aM_16 _ _ _ _ _) rfl (by decide) (by decide) (by decide) dX12_isHelped_44 ?_
          have r45 := hs0 0
          refine lv_iload_n hx hb dX12_isHelped_45 rfl (lv_at hl 3 rfl) ?_
          refine li_icmp_ne (tgt := 53) hx hb (rgi r45.1 r45.2) hf1 dX12_isHelped_46 (by decide) (fun c46 => ?_) (fun c46 => ?_)
          · refine li_iconst hx hb dX12_isHelped_53 ?_
            exact J15 _ (.inr (.inr (.inl (⟨c24, c35, c46, rfl⟩)))) ls (lv_sub hl [0, 1, 2, 3, 4] rfl)
          · refine li_iconst hx hb dX12_isHelped_49 ?_
            refine lv_goto (tgt := 54) hx hb dX12_isHelped_50 (by decide) ?_
            exact J15 _ (.inr (.inr (.inr (⟨c24, c35, c46, rfl⟩)))) ls (lv_sub hl [0, 1, 2, 3, 4] rfl)
set_option maxHeartbeats 4000000 in
theorem m_mayGoM (l : Launch) (G : va_G) (am : Nat → Nat) (ty : Nat → ClassId) (τ ρ : mem) (cs : va_W) (t1 : Int) (f1 : Int) (b1 : Int) (F : mem) (hF : okF F) (hSm : Sim F τ) (hSt : wfS (ρ 27) (ρ 28)) (hst : 0 ≤ t1 ∧ t1 ≤ 7) (hf1 : 0 ≤ f1 ∧ f1 ≤ 4) (hb1 : 0 ≤ b1 ∧ b1 < F 8 0) : cR l yX12_mayGo (ws_ yX12_mayGo cX12_mayGo 7 (some .boolean)) (rm4 1 0 0 20) G ty (wM am ty τ ρ ++ cs) [.ref (am 0), .int (ii t1), .int (ii f1), .int (ii b1)] (fun r => ∃ (z : Int), r = some (.int (ii z)) ∧ ((z = 1 ∧ (mgOk F (ρ 27) t1 f1 b1)) ∨ (z = 0 ∧ (¬ mgOk F (ρ 27) t1 f1 b1)))) := by
  refine cR.of (by decide) (Nat.le_of_ble_eq_true rfl) ?_
  intro p e s m args below meth c Q hQ hx hb hr hml hown hlk hts hK hP hD hX ls hl
  have hl : lv_has ls 7 [(0, .ref (am 0)), (1, .int (ii t1)), (2, .int (ii f1)), (3, .int (ii b1))] := hl
  obtain ⟨hW, hWS, hlg⟩ := id hF
  obtain ⟨hw0, hw1, hw2, hw3, hw4, hw5, h8a, h8b, h9a, h9b, h10a, h10b⟩ := id hW
  obtain ⟨mL, mP, mR, mC, mK, mM, mA, mB, mD⟩ := id hSm
  obtain ⟨hs0, hs1⟩ := id hSt
  obtain ⟨ht0, ht1⟩ := id hst
  obtain ⟨hfa, hfb⟩ := id hf1
  obtain ⟨hba, hbb⟩ := id hb1
  have hp2 := p2_b3 h9a h9b
  have hon := ones_b ht0 ht1
  have hrm := mA b1 hba hbb
  have hw0b := hw0 b1
  refine lv_iload_n hx hb dX12_mayGo_0 rfl (lv_at hl 1 rfl) ?_
  refine li_iconst hx hb dX12_mayGo_1 ?_
  refine lv_aload_n hx hb dX12_mayGo_2 rfl (lv_at hl 0 rfl) ?_
  refine va_get (D := G) (ci := 11) (v := .int (ii (τ 5 0))) (C := RX12) (T := TX12) (N := 52) hx hb hts in_X12 hown hK hP 0 (aM_0 _ _ _ _ _) rfl 5 (by decide) (hts _ q1270) (fun _ h9 => h9) rfl dX12_mayGo_3 ?_
  refine lv_ishl hx hb dX12_mayGo_6 ?_
  refine li_topx (z := p2 (τ 5 0)) (ii_shl1 (by omega) (by omega)) ?_
  have J7 : ∀ (y7_0 : Int) (_ : okb (t1 < p2 (F 9 0) ∧ upto (ρ 27) t1 f1 0) y7_0) (ls : Array Slot), lv_has ls 7 [(0, .ref (am 0)), (1, .int (ii t1)), (2, .int (ii f1)), (3, .int (ii b1))] → W p l e (rm4 1 0 0 20) s m args below meth c s.heap [] 0 0 Q (F0 m 15 ls [.int (ii y7_0)]) := by
    intro y7_0 hj7 ls hl
    refine lv_istore (lv' := [(4, .int (ii y7_0)), (0, .ref (am 0)), (1, .int (ii t1)), (2, .int (ii f1)), (3, .int (ii b1))]) hx hb dX12_mayGo_15 hl (by decide) rfl (fun ls hl => ?_)
    refine lv_iload_n hx hb dX12_mayGo_17 rfl (lv_at hl 2 rfl) ?_
    refine kR (va_runS (As := [.int (ii t1)]) (rest := []) ⟨hx, hb, hml, hown, hts⟩ (m_onesM l G ty (wM am ty τ ρ ++ cs) t1 ⟨by omega, by omega⟩) (va_cwS 1 hts (lw_S q1530 q1531 q87 q1532) rfl rfl rfl (by decide +kernel) ⟨Nat.le_of_ble_eq_true rfl, Nat.le_of_ble_eq_true rfl⟩) (psR hK hP hD hX) rfl rfl hl.1 rfl (lv_room (Nat.le_of_ble_eq_true rfl)) dX12_mayGo_18 ⟨Nat.le_of_ble_eq_true rfl, Nat.le_of_ble_eq_true rfl⟩) (fun v hv => ?_)
    obtain ⟨z18, rfl, rfl⟩ := hv
    refine lv_istore (lv' := [(5, .int (ii (ones t1))), (4, .int (ii y7_0)), (0, .ref (am 0)), (1, .int (ii t1)), (2, .int (ii f1)), (3, .int (ii b1))]) hx hb dX12_mayGo_21 hl (by decide) rfl (fun ls hl => ?_)
    refine li_iconst hx hb dX12_mayGo_23 ?_
    refine lv_istore (lv' := [(6, .int (ii 0)), (5, .int (ii (ones t1))), (4, .int (ii y7_0)), (0, .ref (am 0)), (1, .int (ii t1)), (2, .int (ii f1)), (3, .int (ii b1))]) hx hb dX12_mayGo_24 hl (by decide) rfl (fun ls hl => ?_)
    refine lv_iload hx hb dX12_mayGo_26 (lv_at hl 0 rfl) ?_
    refine lv_aload_n hx hb dX12_mayGo_28 rfl (lv_at hl 3 rfl) ?_
    refine va_get (D := G) (ci := 11) (v := .int (ii (τ 5 0))) (C := RX12) (T := TX12) (N := 52) hx hb hts in_X12 hown hK hP 0 (aM_0 _ _ _ _ _) rfl 5 (by decide) (hts _ q1270) (fun _ h9 => h9) rfl dX12_mayGo_29 ?_
    refine li_icmp_ge (tgt := 94) hx hb ⟨by decide, by decide⟩ ⟨by omega, by omega⟩ dX12_mayGo_32 (by decide) (fun c32 => ?_) (fun c32 => ?_)
    · refine lv_iload hx hb dX12_mayGo_94 (lv_at hl 2 rfl) ?_
      refine li_if_eq (tgt := 128) hx hb (okb_rg hj7) dX12_mayGo_96 (by decide) (fun c96 => ?_) (fun c96 => ?_)
      · refine li_iconst hx hb dX12_mayGo_128 ?_
        exact eRz hQ hx hb hr hlk dX12_mayGo_129 (.inl rfl) (⟨0, rfl, .inr ⟨rfl, mg_f hj7 (show F 9 0 = 0 by omega) c96⟩⟩)
      · refine lv_iload_n hx hb dX12_mayGo_99 rfl (lv_at hl 4 rfl) ?_
        refine li_if_eq (tgt := 124) hx hb ⟨by omega, by omega⟩ dX12_mayGo_100 (by decide) (fun c100 => ?_) (fun c100 => ?_)
        · refine li_iconst hx hb dX12_mayGo_124 ?_
          refine lv_goto (tgt := 129) hx hb dX12_mayGo_125 (by decide) ?_
          exact eRz hQ hx hb hr hlk dX12_mayGo_129 (.inr rfl) (⟨1, rfl, .inl ⟨rfl, mg_t hj7 (show F 9 0 = 0 by omega) c96 (by unfold sumAt; omega)⟩⟩)
        · refine lv_iload_n hx hb dX12_mayGo_103 rfl (lv_at hl 6 rfl) ?_
          refine lv_aload_n hx hb dX12_mayGo_104 rfl (lv_at hl 3 rfl) ?_
          refine va_get (D := G) (ci := 11) (v := .int (ii (τ 0 0))) (C := RX12) (T := TX12) (N := 52) hx hb hts in_X12 hown hK hP 0 (aM_0 _ _ _ _ _) rfl 0 (by decide) (hts _ q1265) (fun _ h9 => h9) rfl dX12_mayGo_105 ?_
          refine li_iconst hx hb dX12_mayGo_108 ?_
          refine li_sub hx hb dX12_mayGo_109 ?_
          refine li_icmp_eq (tgt := 124) hx hb ⟨by omega, by omega⟩ ⟨by omega, by omega⟩ dX12_mayGo_110 (by decide) (fun c110 => ?_) (fun c110 => ?_)
          · refine li_iconst hx hb dX12_mayGo_124 ?_
            refine lv_goto (tgt := 129) hx hb dX12_mayGo_125 (by decide) ?_
            exact eRz hQ hx hb hr hlk dX12_mayGo_129 (.inr rfl) (⟨1, rfl, .inl ⟨rfl, mg_t hj7 (show F 9 0 = 0 by omega) c96 (by unfold sumAt; omega)⟩⟩)
          · refine lv_iload hx hb dX12_mayGo_113 (lv_at hl 1 rfl) ?_
            refine lv_aload_n hx hb dX12_mayGo_115 rfl (lv_at hl 3 rfl) ?_
            refine va_get (D := G) (ci := 11) (v := .ref (am 1)) (C := RX12) (T := TX12) (N := 52) hx hb hts in_X12 hown hK hP 0 (aM_0 _ _ _ _ _) rfl 1 (by decide) (hts _ q1266) (fun _ h9 => h9) rfl dX12_mayGo_116 ?_
            refine lv_iload_n hx hb dX12_mayGo_119 rfl (lv_at hl 6 rfl) ?_
            refine li_iald (g := (τ 1)) hx hb hK hP 1 0 (aM_1 _ _ _ _ _) rfl (by omega) (by omega) (by decide) dX12_mayGo_120 ?_
            refine li_icmp_gt (tgt := 128) hx hb (ones_rg (by omega) (by omega)) ⟨by omega, by omega⟩ dX12_mayGo_121 (by decide) (fun c121 => ?_) (fun c121 => ?_)
            · refine li_iconst hx hb dX12_mayGo_128 ?_
              exact eRz hQ hx hb hr hlk dX12_mayGo_129 (.inl rfl) (⟨0, rfl, .inr ⟨rfl, fun q => by have q := q.2.2; unfold sumAt at q; omega⟩⟩)
            · refine li_iconst hx hb dX12_mayGo_124 ?_
              refine lv_goto (tgt := 129) hx hb dX12_mayGo_125 (by decide) ?_
              exact eRz hQ hx hb hr hlk dX12_mayGo_129 (.inr rfl) (⟨1, rfl, .inl ⟨rfl, mg_t hj7 (show F 9 0 = 0 by omega) c96 (by unfold sumAt; omega)⟩⟩)
    · refine lv_iload hx hb dX12_mayGo_35 (lv_at hl 2 rfl) ?_
      have J37 : ∀ (y37_0 : Int) (_ : okb (t1 < p2 (F 9 0) ∧ upto (ρ 27) t1 f1 1) y37_0) (ls : Array Slot), lv_has ls 7 [(6, .int (ii 0)), (5, .int (ii (ones t1))), (4, .int (ii y7_0)), (0, .ref (am 0)), (1, .int (ii t1)), (2, .int (ii f1)), (3, .int (ii b1))] → W p l e (rm4 1 0 0 20) s m args below meth c s.heap [] 0 0 Q (F0 m 65 ls [.int (ii y37_0)]) := by
        intro y37_0 hj37 ls hl
        refine lv_istore (lv' := [(4, .int (ii y37_0)), (6, .int (ii 0)), (5, .int (ii (ones t1))), (0, .ref (am 0)), (1, .int (ii t1)), (2, .int (ii f1)), (3, .int (ii b1))]) hx hb dX12_mayGo_65 hl (by decide) rfl (fun ls hl => ?_)
        refine lv_iload hx hb dX12_mayGo_67 (lv_at hl 2 rfl) ?_
        refine lv_aload_n hx hb dX12_mayGo_69 rfl (lv_at hl 3 rfl) ?_
        refine va_get (D := G) (ci := 11) (v := .ref (am 16)) (C := RX12) (T := TX12) (N := 52) hx hb hts in_X12 hown hK hP 0 (aM_0 _ _ _ _ _) rfl 27 (by decide) (hts _ q1292) (fun _ h9 => h9) rfl dX12_mayGo_70 ?_
        refine lv_iload hx hb dX12_mayGo_73 (lv_at hl 1 rfl) ?_
        refine li_iald (g := (ρ 27)) hx hb hK hP 16 0 (aM_16 _ _ _ _ _) rfl (by decide) (by decide) (by decide) dX12_mayGo_75 ?_
        have r76 := hs0 0
        refine lv_iload_n hx hb dX12_mayGo_76 rfl (lv_at hl 6 rfl) ?_
        have J77 : ∀ (y77_0 : Int) (_ : y77_0 = at1 (ρ 27) b1 0 ∧ 0 ≤ y77_0 ∧ y77_0 ≤ 1) (ls : Array Slot), lv_has ls 7 [(4, .int (ii y37_0)), (6, .int (ii 0)), (5, .int (ii (ones t1))), (0, .ref (am 0)), (1, .int (ii t1)), (2, .int (ii f1)), (3, .int (ii b1))] → W p l e (rm4 1 0 0 20) s m args below meth c s.heap [] 0 0 Q (F0 m 85 ls [.int (ii y77_0), .int (ii (ones t1))]) := by
          intro y77_0 hj77 ls hl
          refine li_add hx hb dX12_mayGo_85 ?_
          refine lv_istore (lv' := [(5, .int (ii (ones t1 + y77_0))), (4, .int (ii y37_0)), (6, .int (ii 0)), (0, .ref (am 0)), (1, .int (ii t1)), (2, .int (ii f1)), (3, .int (ii b1))]) hx hb dX12_mayGo_86 hl (by decide) rfl (fun ls hl => ?_)
          refine li_iinc (a := 0) (lv' := [(6, .int (ii 1)), (5, .int (ii (ones t1 + y77_0))), (4, .int (ii y37_0)), (0, .ref (am 0)), (1, .int (ii t1)), (2, .int (ii f1)), (3, .int (ii b1))]) hx hb dX12_mayGo_88 hl (k := 2) rfl (by decide) rfl (fun ls hl => ?_)
          refine lv_goto (tgt := 26) hx hb dX12_mayGo_91 (by decide) ?_
          refine lv_iload hx hb dX12_mayGo_26 (lv_at hl 0 rfl) ?_
          refine lv_aload_n hx hb dX12_mayGo_28 rfl (lv_at hl 3 rfl) ?_
          refine va_get (D := G) (ci := 11) (v := .int (ii (τ 5 0))) (C := RX12) (T := TX12) (N := 52) hx hb hts in_X12 hown hK hP 0 (aM_0 _ _ _ _ _) rfl 5 (by decide) (hts _ q1270) (fun _ h9 => h9) rfl dX12_mayGo_29 ?_
          refine li_icmp_ge (tgt := 94) hx hb ⟨by decide, by decide⟩ ⟨by omega, by omega⟩ dX12_mayGo_32 (by decide) (fun c32 => ?_) (fun c32 => ?_)
          · refine lv_iload hx hb dX12_mayGo_94 (lv_at hl 2 rfl) ?_
            refine li_if_eq (tgt := 128) hx hb (okb_rg hj37) dX12_mayGo_96 (by decide) (fun c96 => ?_) (fun c96 => ?_)
            · refine li_iconst hx hb dX12_mayGo_128 ?_
              exact eRz hQ hx hb hr hlk dX12_mayGo_129 (.inl rfl) (⟨0, rfl, .inr ⟨rfl, mg_f hj37 (show F 9 0 = 1 by omega) c96⟩⟩)
            · refine lv_iload_n hx hb dX12_mayGo_99 rfl (lv_at hl 4 rfl) ?_
              refine li_if_eq (tgt := 124) hx hb ⟨by omega, by omega⟩ dX12_mayGo_100 (by decide) (fun c100 => ?_) (fun c100 => ?_)
              · refine li_iconst hx hb dX12_mayGo_124 ?_
                refine lv_goto (tgt := 129) hx hb dX12_mayGo_125 (by decide) ?_
                exact eRz hQ hx hb hr hlk dX12_mayGo_129 (.inr rfl) (⟨1, rfl, .inl ⟨rfl, mg_t hj37 (show F 9 0 = 1 by omega) c96 (by unfold sumAt; omega)⟩⟩)
              · refine lv_iload_n hx hb dX12_mayGo_103 rfl (lv_at hl 6 rfl) ?_
                refine lv_aload_n hx hb dX12_mayGo_104 rfl (lv_at hl 3 rfl) ?_
                refine va_get (D := G) (ci := 11) (v := .int (ii (τ 0 0))) (C := RX12) (T := TX12) (N := 52) hx hb hts in_X12 hown hK hP 0 (aM_0 _ _ _ _ _) rfl 0 (by decide) (hts _ q1265) (fun _ h9 => h9) rfl dX12_mayGo_105 ?_
                refine li_iconst hx hb dX12_mayGo_108 ?_
                refine li_sub hx hb dX12_mayGo_109 ?_
                refine li_icmp_eq (tgt := 124) hx hb ⟨by omega, by omega⟩ ⟨by omega, by omega⟩ dX12_mayGo_110 (by decide) (fun c110 => ?_) (fun c110 => ?_)
                · refine li_iconst hx hb dX12_mayGo_124 ?_
                  refine lv_goto (tgt := 129) hx hb dX12_mayGo_125 (by decide) ?_
                  exact eRz hQ hx hb hr hlk dX12_mayGo_129 (.inr rfl) (⟨1, rfl, .inl ⟨rfl, mg_t hj37 (show F 9 0 = 1 by omega) c96 (by unfold sumAt; omega)⟩⟩)
                · refine lv_iload hx hb dX12_mayGo_113 (lv_at hl 1 rfl) ?_
                  refine lv_aload_n hx hb dX12_mayGo_115 rfl (lv_at hl 3 rfl) ?_
                  refine va_get (D := G) (ci := 11) (v := .ref (am 1)) (C := RX12) (T := TX12) (N := 52) hx hb hts in_X12 hown hK hP 0 (aM_0 _ _ _ _ _) rfl 1 (by decide) (hts _ q1266) (fun _ h9 => h9) rfl dX12_mayGo_116 ?_
                  refine lv_iload_n hx hb dX12_mayGo_119 rfl (lv_at hl 6 rfl) ?_
                  refine li_iald (g := (τ 1)) hx hb hK hP 1 0 (aM_1 _ _ _ _ _) rfl (by omega) (by omega) (by decide) dX12_mayGo_120 ?_
                  refine li_icmp_gt (tgt := 128) hx hb ⟨by omega, by omega⟩ ⟨by omega, by omega⟩ dX12_mayGo_121 (by decide) (fun c121 => ?_) (fun c121 => ?_)
                  · refine li_iconst hx hb dX12_mayGo_128 ?_
                    exact eRz hQ hx hb hr hlk dX12_mayGo_129 (.inl rfl) (⟨0, rfl, .inr ⟨rfl, fun q => by have q := q.2.2; unfold sumAt at q; omega⟩⟩)
                  · refine li_iconst hx hb dX12_mayGo_124 ?_
                    refine lv_goto (tgt := 129) hx hb dX12_mayGo_125 (by decide) ?_
                    exact eRz hQ hx hb hr hlk dX12_mayGo_129 (.inr rfl) (⟨1, rfl, .inl ⟨rfl, mg_t hj37 (show F 9 0 = 1 by omega) c96 (by unfold sumAt; omega)⟩⟩)
          · refine lv_iload hx hb dX12_mayGo_35 (lv_at hl 2 rfl) ?_
            have J37_1 : ∀ (y37_1_0 : Int) (_ : okb (t1 < p2 (F 9 0) ∧ upto (ρ 27) t1 f1 2) y37_1_0) (ls : Array Slot), lv_has ls 7 [(6, .int (ii 1)), (5, .int (ii (ones t1 + y77_0))), (4, .int (ii y37_0)), (0, .ref (am 0)), (1, .int (ii t1)), (2, .int (ii f1)), (3, .int (ii b1))] → W p l e (rm4 1 0 0 20) s m args below meth c s.heap [] 0 0 Q (F0 m 65 ls [.int (ii y37_1_0)]) := by
              intro y37_1_0 hj37_1 ls hl
              refine lv_istore (lv' := [(4, .int (ii y37_1_0)), (6, .int (ii 1)), (5, .int (ii (ones t1 + y77_0))), (0, .ref (am 0)), (1, .int (ii t1)), (2, .int (ii f1)), (3, .int (ii b1))]) hx hb dX12_mayGo_65 hl (by decide) rfl (fun ls hl => ?_)
              refine lv_iload hx hb dX12_mayGo_67 (lv_at hl 2 rfl) ?_
              refine lv_aload_n hx hb dX12_mayGo_69 rfl (lv_at hl 3 rfl) ?_
              refine va_get (D := G) (ci := 11) (v := .ref (am 16)) (C := RX12) (T := TX12) (N := 52) hx hb hts in_X12 hown hK hP 0 (aM_0 _ _ _ _ _) rfl 27 (by decide) (hts _ q1292) (fun _ h9 => h9) rfl dX12_mayGo_70 ?_
              refine lv_iload hx hb dX12_mayGo_73 (lv_at hl 1 rfl) ?_
              refine li_iald (g := (ρ 27)) hx hb hK hP 16 0 (aM_16 _ _ _ _ _) rfl (by decide) (by decide) (by decide) dX12_mayGo_75 ?_
              have r76_1 := hs0 1
              refine lv_iload_n hx hb dX12_mayGo_76 rfl (lv_at hl 6 rfl) ?_
              have J77_1 : ∀ (y77_1_0 : Int) (_ : y77_1_0 = at1 (ρ 27) b1 1 ∧ 0 ≤ y77_1_0 ∧ y77_1_0 ≤ 1) (ls : Array Slot), lv_has ls 7 [(4, .int (ii y37_1_0)), (6, .int (ii 1)), (5, .int (ii (ones t1 + y77_0))), (0, .ref (am 0)), (1, .int (ii t1)), (2, .int (ii f1)), (3, .int (ii b1))] → W p l e (rm4 1 0 0 20) s m args below meth c s.heap [] 0 0 Q (F0 m 85 ls [.int (ii y77_1_0), .int (ii (ones t1 + y77_0))]) := by
                intro y77_1_0 hj77_1 ls hl
                refine li_add hx hb dX12_mayGo_85 ?_
                refine lv_istore (lv' := [(5, .int (ii (ones t1 + y77_0 + y77_1_0))), (4, .int (ii y37_1_0)), (6, .int (ii 1)), (0, .ref (am 0)), (1, .int (ii t1)), (2, .int (ii f1)), (3, .int (ii b1))]) hx hb dX12_mayGo_86 hl (by decide) rfl (fun ls hl => ?_)
                refine li_iinc (a := 1) (lv' := [(6, .int (ii 2)), (5, .int (ii (ones t1 + y77_0 + y77_1_0))), (4, .int (ii y37_1_0)), (0, .ref (am 0)), (1, .int (ii t1)), (2, .int (ii f1)), (3, .int (ii b1))]) hx hb dX12_mayGo_88 hl (k := 2) rfl (by decide) rfl (fun ls hl => ?_)
                refine lv_goto (tgt := 26) hx hb dX12_mayGo_91 (by decide) ?_
                refine lv_iload hx hb dX12_mayGo_26 (lv_at hl 0 rfl) ?_
                refine lv_aload_n hx hb dX12_mayGo_28 rfl (lv_at hl 3 rfl) ?_
                refine va_get (D := G) (ci := 11) (v := .int (ii (τ 5 0))) (C := RX12) (T := TX12) (N := 52) hx hb hts in_X12 hown hK hP 0 (aM_0 _ _ _ _ _) rfl 5 (by decide) (hts _ q1270) (fun _ h9 => h9) rfl dX12_mayGo_29 ?_
                refine li_icmp_ge (tgt := 94) hx hb ⟨by decide, by decide⟩ ⟨by omega, by omega⟩ dX12_mayGo_32 (by decide) (fun c32 => ?_) (fun c32 => ?_)
                · refine lv_iload hx hb dX12_mayGo_94 (lv_at hl 2 rfl) ?_
                  refine li_if_eq (tgt := 128) hx hb (okb_rg hj37_1) dX12_mayGo_96 (by decide) (fun c96 => ?_) (fun c96 => ?_)
                  · refine li_iconst hx hb dX12_mayGo_128 ?_
                    exact eRz hQ hx hb hr hlk dX12_mayGo_129 (.inl rfl) (⟨0, rfl, .inr ⟨rfl, mg_f hj37_1 (show F 9 0 = 2 by omega) c96⟩⟩)
                  · refine lv_iload_n hx hb dX12_mayGo_99 rfl (lv_at hl 4 rfl) ?_
                    refine li_if_eq (tgt := 124) hx hb ⟨by omega, by omega⟩ dX12_mayGo_100 (by decide) (fun c100 => ?_) (fun c100 => ?_)
                    · refine li_iconst hx hb dX12_mayGo_124 ?_
                      refine lv_goto (tgt := 129) hx hb dX12_mayGo_125 (by decide) ?_
                      exact eRz hQ hx hb hr hlk dX12_mayGo_129 (.inr rfl) (⟨1, rfl, .inl ⟨rfl, mg_t hj37_1 (show F 9 0 = 2 by omega) c96 (by unfold sumAt; omega)⟩⟩)
                    · refine lv_iload_n hx hb dX12_mayGo_103 rfl (lv_at hl 6 rfl) ?_
                      refine lv_aload_n hx hb dX12_mayGo_104 rfl (lv_at hl 3 rfl) ?_
                      refine va_get (D := G) (ci := 11) (v := .int (ii (τ 0 0))) (C := RX12) (T := TX12) (N := 52) hx hb hts in_X12 hown hK hP 0 (aM_0 _ _ _ _ _) rfl 0 (by decide) (hts _ q1265) (fun _ h9 => h9) rfl dX12_mayGo_105 ?_
                      refine li_iconst hx hb dX12_mayGo_108 ?_
                      refine li_sub hx hb dX12_mayGo_109 ?_
                      refine li_icmp_eq (tgt := 124) hx hb ⟨by omega, by omega⟩ ⟨by omega, by omega⟩ dX12_mayGo_110 (by decide) (fun c110 => ?_) (fun c110 => ?_)
                      · refine li_iconst hx hb dX12_mayGo_124 ?_
                        refine lv_goto (tgt := 129) hx hb dX12_mayGo_125 (by decide) ?_
                        exact eRz hQ hx hb hr hlk dX12_mayGo_129 (.inr rfl) (⟨1, rfl, .inl ⟨rfl, mg_t hj37_1 (show F 9 0 = 2 by omega) c96 (by unfold sumAt; omega)⟩⟩)
                      · refine lv_iload hx hb dX12_mayGo_113 (lv_at hl 1 rfl) ?_
                        refine lv_aload_n hx hb dX12_mayGo_115 rfl (lv_at hl 3 rfl) ?_
                        refine va_get (D := G) (ci := 11) (v := .ref (am 1)) (C := RX12) (T := TX12) (N := 52) hx hb hts in_X12 hown hK hP 0 (aM_0 _ _ _ _ _) rfl 1 (by decide) (hts _ q1266) (fun _ h9 => h9) rfl dX12_mayGo_116 ?_
                        refine lv_iload_n hx hb dX12_mayGo_119 rfl (lv_at hl 6 rfl) ?_
                        refine li_iald (g := (τ 1)) hx hb hK hP 1 0 (aM_1 _ _ _ _ _) rfl (by omega) (by omega) (by decide) dX12_mayGo_120 ?_
                        refine li_icmp_gt (tgt := 128) hx hb ⟨by omega, by omega⟩ ⟨by omega, by omega⟩ dX12_mayGo_121 (by decide) (fun c121 => ?_) (fun c121 => ?_)
                        · refine li_iconst hx hb dX12_mayGo_128 ?_
                          exact eRz hQ hx hb hr hlk dX12_mayGo_129 (.inl rfl) (⟨0, rfl, .inr ⟨rfl, fun q => by have q := q.2.2; unfold sumAt at q; omega⟩⟩)
                        · refine li_iconst hx hb dX12_mayGo_124 ?_
                          refine lv_goto (tgt := 129) hx hb dX12_mayGo_125 (by decide) ?_
                          exact eRz hQ hx hb hr hlk dX12_mayGo_129 (.inr rfl) (⟨1, rfl, .inl ⟨rfl, mg_t hj37_1 (show F 9 0 = 2 by omega) c96 (by unfold sumAt; omega)⟩⟩)
                · refine lv_iload hx hb dX12_mayGo_35 (lv_at hl 2 rfl) ?_
                  have J37_2 : ∀ (y37_2_0 : Int) (_ : okb (t1 < p2 (F 9 0) ∧ upto (ρ 27) t1 f1 3) y37_2_0) (ls : Array Slot), lv_has ls 7 [(6, .int (ii 2)), (5, .int (ii (ones t1 + y77_0 + y77_1_0))), (4, .int (ii y37_1_0)), (0, .ref (am 0)), (1, .int (ii t1)), (2, .int (ii f1)), (3, .int (ii b1))] → W p l e (rm4 1 0 0 20) s m args below meth c s.heap [] 0 0 Q (F0 m 65 ls [.int (ii y37_2_0)]) := by
                    intro y37_2_0 hj37_2 ls hl
                    refine lv_istore (lv' := [(4, .int (ii y37_2_0)), (6, .int (ii 2)), (5, .int (ii (ones t1 + y77_0 + y77_1_0))), (0, .ref (am 0)), (1, .int (ii t1)), (2, .int (ii f1)), (3, .int (ii b1))]) hx hb dX12_mayGo_65 hl (by decide) rfl (fun ls hl => ?_)
                    refine lv_iload hx hb dX12_mayGo_67 (lv_at hl 2 rfl) ?_
                    refine lv_aload_n hx hb dX12_mayGo_69 rfl (lv_at hl 3 rfl) ?_
                    refine va_get (D := G) (ci := 11) (v := .ref (am 16)) (C := RX12) (T := TX12) (N := 52) hx hb hts in_X12 hown hK hP 0 (aM_0 _ _ _ _ _) rfl 27 (by decide) (hts _ q1292) (fun _ h9 => h9) rfl dX12_mayGo_70 ?_
                    refine lv_iload hx hb dX12_mayGo_73 (lv_at hl 1 rfl) ?_
                    refine li_iald (g := (ρ 27)) hx hb hK hP 16 0 (aM_16 _ _ _ _ _) rfl (by decide) (by decide) (by decide) dX12_mayGo_75 ?_
                    have r76_2 := hs0 2
                    refine lv_iload_n hx hb dX12_mayGo_76 rfl (lv_at hl 6 rfl) ?_
                    have J77_2 : ∀ (y77_2_0 : Int) (_ : y77_2_0 = at1 (ρ 27) b1 2 ∧ 0 ≤ y77_2_0 ∧ y77_2_0 ≤ 1) (ls : Array Slot), lv_has ls 7 [(4, .int (ii y37_2_0)), (6, .int (ii 2)), (5, .int (ii (ones t1 + y77_0 + y77_1_0))), (0, .ref (am 0)), (1, .int (ii t1)), (2, .int (ii f1)), (3, .int (ii b1))] → W p l e (rm4 1 0 0 20) s m args below meth c s.heap [] 0 0 Q (F0 m 85 ls [.int (ii y77_2_0), .int (ii (ones t1 + y77_0 + y77_1_0))]) := by
                      intro y77_2_0 hj77_2 ls hl
                      refine li_add hx hb dX12_mayGo_85 ?_
                      refine lv_istore (lv' := [(5, .int (ii (ones t1 + y77_0 + y77_1_0 + y77_2_0))), (4, .int (ii y37_2_0)), (6, .int (ii 2)), (0, .ref (am 0)), (1, .int (ii t1)), (2, .int (ii f1)), (3, .int (ii b1))]) hx hb dX12_mayGo_86 hl (by decide) rfl (fun ls hl => ?_)
                      refine li_iinc (a := 2) (lv' := [(6, .int (ii 3)), (5, .int (ii (ones t1 + y77_0 + y77_1_0 + y77_2_0))), (4, .int (ii y37_2_0)), (0, .ref (am 0)), (1, .int (ii t1)), (2, .int (ii f1)), (3, .int (ii b1))]) hx hb dX12_mayGo_88 hl (k := 2) rfl (by decide) rfl (fun ls hl => ?_)
                      refine lv_goto (tgt := 26) hx hb dX12_mayGo_91 (by decide) ?_
                      refine lv_iload hx hb dX12_mayGo_26 (lv_at hl 0 rfl) ?_
                      refine lv_aload_n hx hb dX12_mayGo_28 rfl (lv_at hl 3 rfl) ?_
                      refine va_get (D := G) (ci := 11) (v := .int (ii (τ 5 0))) (C := RX12) (T := TX12) (N := 52) hx hb hts in_X12 hown hK hP 0 (aM_0 _ _ _ _ _) rfl 5 (by decide) (hts _ q1270) (fun _ h9 => h9) rfl dX12_mayGo_29 ?_
                      refine li_icmp_ge (tgt := 94) hx hb ⟨by decide, by decide⟩ ⟨by omega, by omega⟩ dX12_mayGo_32 (by decide) (fun c32 => ?_) (fun c32 => ?_)
                      · refine lv_iload hx hb dX12_mayGo_94 (lv_at hl 2 rfl) ?_
                        refine li_if_eq (tgt := 128) hx hb (okb_rg hj37_2) dX12_mayGo_96 (by decide) (fun c96 => ?_) (fun c96 => ?_)
                        · refine li_iconst hx hb dX12_mayGo_128 ?_
                          exact eRz hQ hx hb hr hlk dX12_mayGo_129 (.inl rfl) (⟨0, rfl, .inr ⟨rfl, mg_f hj37_2 (show F 9 0 = 3 by omega) c96⟩⟩)
                        · refine lv_iload_n hx hb dX12_mayGo_99 rfl (lv_at hl 4 rfl) ?_
                          refine li_if_eq (tgt := 124) hx hb ⟨by omega, by omega⟩ dX12_mayGo_100 (by decide) (fun c100 => ?_) (fun c100 => ?_)
                          · refine li_iconst hx hb dX12_mayGo_124 ?_
                            refine lv_goto (tgt := 129) hx hb dX12_mayGo_125 (by decide) ?_
                            exact eRz hQ hx hb hr hlk dX12_mayGo_129 (.inr rfl) (⟨1, rfl, .inl ⟨rfl, mg_t hj37_2 (show F 9 0 = 3 by omega) c96 (by unfold sumAt; omega)⟩⟩)
                          · refine lv_iload_n hx hb dX12_mayGo_103 rfl (lv_at hl 6 rfl) ?_
                            refine lv_aload_n hx hb dX12_mayGo_104 rfl (lv_at hl 3 rfl) ?_
                            refine va_get (D := G) (ci := 11) (v := .int (ii (τ 0 0))) (C := RX12) (T := TX12) (N := 52) hx hb hts in_X12 hown hK hP 0 (aM_0 _ _ _ _ _) rfl 0 (by decide) (hts _ q1265) (fun _ h9 => h9) rfl dX12_mayGo_105 ?_
                            refine li_iconst hx hb dX12_mayGo_108 ?_
                            refine li_sub hx hb dX12_mayGo_109 ?_
                            refine li_icmp_eq (tgt := 124) hx hb ⟨by omega, by omega⟩ ⟨by omega, by omega⟩ dX12_mayGo_110 (by decide) (fun c110 => ?_) (fun c110 => ?_)
                            · refine li_iconst hx hb dX12_mayGo_124 ?_
                              refine lv_goto (tgt := 129) hx hb dX12_mayGo_125 (by decide) ?_
                              exact eRz hQ hx hb hr hlk dX12_mayGo_129 (.inr rfl) (⟨1, rfl, .inl ⟨rfl, mg_t hj37_2 (show F 9 0 = 3 by omega) c96 (by unfold sumAt; omega)⟩⟩)
                            · refine lv_iload hx hb dX12_mayGo_113 (lv_at hl 1 rfl) ?_
                              refine lv_aload_n hx hb dX12_mayGo_115 rfl (lv_at hl 3 rfl) ?_
                              refine va_get (D := G) (ci := 11) (v := .ref (am 1)) (C := RX12) (T := TX12) (N := 52) hx hb hts in_X12 hown hK hP 0 (aM_0 _ _ _ _ _) rfl 1 (by decide) (hts _ q1266) (fun _ h9 => h9) rfl dX12_mayGo_116 ?_
                              refine lv_iload_n hx hb dX12_mayGo_119 rfl (lv_at hl 6 rfl) ?_
                              refine li_iald (g := (τ 1)) hx hb hK hP 1 0 (aM_1 _ _ _ _ _) rfl (by omega) (by omega) (by decide) dX12_mayGo_120 ?_
                              refine li_icmp_gt (tgt := 128) hx hb ⟨by omega, by omega⟩ ⟨by omega, by omega⟩ dX12_mayGo_121 (by decide) (fun c121 => ?_) (fun c121 => ?_)
                              · refine li_iconst hx hb dX12_mayGo_128 ?_
                                exact eRz hQ hx hb hr hlk dX12_mayGo_129 (.inl rfl) (⟨0, rfl, .inr ⟨rfl, fun q => by have q := q.2.2; unfold sumAt at q; omega⟩⟩)
                              · refine li_iconst hx hb dX12_mayGo_124 ?_
                                refine lv_goto (tgt := 129) hx hb dX12_mayGo_125 (by decide) ?_
                                exact eRz hQ hx hb hr hlk dX12_mayGo_129 (.inr rfl) (⟨1, rfl, .inl ⟨rfl, mg_t hj37_2 (show F 9 0 = 3 by omega) c96 (by unfold sumAt; omega)⟩⟩)
                      · exfalso
                        omega
                    refine li_icmp_ne (tgt := 84) hx hb (rgi r76_2.1 r76_2.2) ⟨by omega, by omega⟩ dX12_mayGo_77 (by decide) (fun c77 => ?_) (fun c77 => ?_)
                    · refine li_iconst hx hb dX12_mayGo_84 ?_
                      exact J77_2 _ (by unfold at1; omega) ls (lv_sub hl [0, 1, 2, 3, 4, 5, 6] rfl)
                    · refine li_iconst hx hb dX12_mayGo_80 ?_
                      refine lv_goto (tgt := 85) hx hb dX12_mayGo_81 (by decide) ?_
                      exact J77_2 _ (by unfold at1; omega) ls (lv_sub hl [0, 1, 2, 3, 4, 5, 6] rfl)
                  refine li_if_eq (tgt := 64) hx hb (okb_rg hj37_1) dX12_mayGo_37 (by decide) (fun c37 => ?_) (fun c37 => ?_)
                  · refine li_iconst hx hb dX12_mayGo_64 ?_
                    exact J37_2 _ (up_0 hj37_1 c37) ls (lv_sub hl [0, 1, 2, 3, 4, 5, 6] rfl)
                  · refine lv_iload_n hx hb dX12_mayGo_40 rfl (lv_at hl 4 rfl) ?_
                    refine lv_iload hx hb dX12_mayGo_41 (lv_at hl 0 rfl) ?_
                    refine lv_ishr hx hb dX12_mayGo_43 ?_
                    refine li_topx (z := t1 / 4) (ii_shr2 (by omega) (by omega)) ?_
                    refine li_iconst hx hb dX12_mayGo_44 ?_
                    refine lv_iand hx hb dX12_mayGo_45 ?_
                    refine li_topx (z := (t1 / 4) % 2) (ii_and1 (by omega) (by omega)) ?_
                    refine li_if_eq (tgt := 60) hx hb ⟨by omega, by omega⟩ dX12_mayGo_46 (by decide) (fun c46 => ?_) (fun c46 => ?_)
                    · refine li_iconst hx hb dX12_mayGo_60 ?_
                      refine lv_goto (tgt := 65) hx hb dX12_mayGo_61 (by decide) ?_
                      exact J37_2 _ (up_1 (p := 2) hj37_1 c37 (fun q => by have q : t1 / 4 % 2 = 1 := q; omega)) ls (lv_sub hl [0, 1, 2, 3, 4, 5, 6] rfl)
                    · refine lv_aload_n hx hb dX12_mayGo_49 rfl (lv_at hl 3 rfl) ?_
                      refine va_get (D := G) (ci := 11) (v := .ref (am 16)) (C := RX12) (T := TX12) (N := 52) hx hb hts in_X12 hown hK hP 0 (aM_0 _ _ _ _ _) rfl 27 (by decide) (hts _ q1292) (fun _ h9 => h9) rfl dX12_mayGo_50 ?_
                      refine lv_iload hx hb dX12_mayGo_53 (lv_at hl 0 rfl) ?_
                      refine li_iald (g := (ρ 27)) hx hb hK hP 16 0 (aM_16 _ _ _ _ _) rfl (by decide) (by decide) (by decide) dX12_mayGo_55 ?_
                      have r56 := hs0 2
                      refine lv_iload_n hx hb dX12_mayGo_56 rfl (lv_at hl 5 rfl) ?_
                      refine li_icmp_ne (tgt := 64) hx hb (rgi r56.1 r56.2) ⟨by omega, by omega⟩ dX12_mayGo_57 (by decide) (fun c57 => ?_) (fun c57 => ?_)
                      · refine li_iconst hx hb dX12_mayGo_64 ?_
                        exact J37_2 _ (up_x (p := 2) hj37_1 (fun q => c57 (q (show t1 / 4 % 2 = 1 by omega)))) ls (lv_sub hl [0, 1, 2, 3, 4, 5, 6] rfl)
                      · refine li_iconst hx hb dX12_mayGo_60 ?_
                        refine lv_goto (tgt := 65) hx hb dX12_mayGo_61 (by decide) ?_
                        exact J37_2 _ (up_1 (p := 2) hj37_1 c37 (fun _ => by omega)) ls (lv_sub hl [0, 1, 2, 3, 4, 5, 6] rfl)
              refine li_icmp_ne (tgt := 84) hx hb (rgi r76_1.1 r76_1.2) ⟨by omega, by omega⟩ dX12_mayGo_77 (by decide) (fun c77 => ?_) (fun c77 => ?_)
              · refine li_iconst hx hb dX12_mayGo_84 ?_
                exact J77_1 _ (by unfold at1; omega) ls (lv_sub hl [0, 1, 2, 3, 4, 5, 6] rfl)
              · refine li_iconst hx hb dX12_mayGo_80 ?_
                refine lv_goto (tgt := 85) hx hb dX12_mayGo_81 (by decide) ?_
                exact J77_1 _ (by unfold at1; omega) ls (lv_sub hl [0, 1, 2, 3, 4, 5, 6] rfl)
            refine li_if_eq (tgt := 64) hx hb (okb_rg hj37) dX12_mayGo_37 (by decide) (fun c37 => ?_) (fun c37 => ?_)
            · refine li_iconst hx hb dX12_mayGo_64 ?_
              exact J37_1 _ (up_0 hj37 c37) ls (lv_sub hl [0, 1, 2, 3, 4, 5, 6] rfl)
            · refine lv_iload_n hx hb dX12_mayGo_40 rfl (lv_at hl 4 rfl) ?_
              refine lv_iload hx hb dX12_mayGo_41 (lv_at hl 0 rfl) ?_
              refine lv_ishr hx hb dX12_mayGo_43 ?_
              refine li_topx (z := t1 / 2) (ii_shr1 (by omega) (by omega)) ?_
              refine li_iconst hx hb dX12_mayGo_44 ?_
              refine lv_iand hx hb dX12_mayGo_45 ?_
              refine li_topx (z := (t1 / 2) % 2) (ii_and1 (by omega) (by omega)) ?_
              refine li_if_eq (tgt := 60) hx hb ⟨by omega, by omega⟩ dX12_mayGo_46 (by decide) (fun c46 => ?_) (fun c46 => ?_)
              · refine li_iconst hx hb dX12_mayGo_60 ?_
                refine lv_goto (tgt := 65) hx hb dX12_mayGo_61 (by decide) ?_
                exact J37_1 _ (up_1 (p := 1) hj37 c37 (fun q => by have q : t1 / 2 % 2 = 1 := q; omega)) ls (lv_sub hl [0, 1, 2, 3, 4, 5, 6] rfl)
              · refine lv_aload_n hx hb dX12_mayGo_49 rfl (lv_at hl 3 rfl) ?_
                refine va_get (D := G) (ci := 11) (v := .ref (am 16)) (C := RX12) (T := TX12) (N := 52) hx hb hts in_X12 hown hK hP 0 (aM_0 _ _ _ _ _) rfl 27 (by decide) (hts _ q1292) (fun _ h9 => h9) rfl dX12_mayGo_50 ?_
                refine lv_iload hx hb dX12_mayGo_53 (lv_at hl 0 rfl) ?_
                refine li_iald (g := (ρ 27)) hx hb hK hP 16 0 (aM_16 _ _ _ _ _) rfl (by decide) (by decide) (by decide) dX12_mayGo_55 ?_
                have r56 := hs0 1
                refine lv_iload_n hx hb dX12_mayGo_56 rfl (lv_at hl 5 rfl) ?_
                refine li_icmp_ne (tgt := 64) hx hb (rgi r56.1 r56.2) ⟨by omega, by omega⟩ dX12_mayGo_57 (by decide) (fun c57 => ?_) (fun c57 => ?_)
                · refine li_iconst hx hb dX12_mayGo_64 ?_
                  exact J37_1 _ (up_x (p := 1) hj37 (fun q => c57 (q (show t1 / 2 % 2 = 1 by omega)))) ls (lv_sub hl [0, 1, 2, 3, 4, 5, 6] rfl)
                · refine li_iconst hx hb dX12_mayGo_60 ?_
                  refine lv_goto (tgt := 65) hx hb dX12_mayGo_61 (by decide) ?_
                  exact J37_1 _ (up_1 (p := 1) hj37 c37 (fun _ => by omega)) ls (lv_sub hl [0, 1, 2, 3, 4, 5, 6] rfl)
        refine li_icmp_ne (tgt := 84) hx hb (rgi r76.1 r76.2) ⟨by omega, by omega⟩ dX12_mayGo_77 (by decide) (fun c77 => ?_) (fun c77 => ?_)
        · refine li_iconst hx hb dX12_mayGo_84 ?_
          exact J77 _ (by unfold at1; omega) ls (lv_sub hl [0, 1, 2, 3, 4, 5, 6] rfl)
        · refine li_iconst hx hb dX12_mayGo_80 ?_
          refine lv_goto (tgt := 85) hx hb dX12_mayGo_81 (by decide) ?_
          exact J77 _ (by unfold at1; omega) ls (lv_sub hl [0, 1, 2, 3, 4, 5, 6] rfl)
      refine li_if_eq (tgt := 64) hx hb (okb_rg hj7) dX12_mayGo_37 (by decide) (fun c37 => ?_) (fun c37 => ?_)
      · refine li_iconst hx hb dX12_mayGo_64 ?_
        exact J37 _ (up_0 hj7 c37) ls (lv_sub hl [0, 1, 2, 3, 4, 5, 6] rfl)
      · refine lv_iload_n hx hb dX12_mayGo_40 rfl (lv_at hl 4 rfl) ?_
        refine lv_iload hx hb dX12_mayGo_41 (lv_at hl 0 rfl) ?_
        refine lv_ishr hx hb dX12_mayGo_43 ?_
        refine li_topx (z := t1) (ii_shr0 (by omega) (by omega)) ?_
        refine li_iconst hx hb dX12_mayGo_44 ?_
        refine lv_iand hx hb dX12_mayGo_45 ?_
        refine li_topx (z := t1 % 2) (ii_and1 (by omega) (by omega)) ?_
        refine li_if_eq (tgt := 60) hx hb ⟨by omega, by omega⟩ dX12_mayGo_46 (by decide) (fun c46 => ?_) (fun c46 => ?_)
        · refine li_iconst hx hb dX12_mayGo_60 ?_
          refine lv_goto (tgt := 65) hx hb dX12_mayGo_61 (by decide) ?_
          exact J37 _ (up_1 (p := 0) hj7 c37 (fun q => by have q : t1 % 2 = 1 := q; omega)) ls (lv_sub hl [0, 1, 2, 3, 4, 5, 6] rfl)
        · refine lv_aload_n hx hb dX12_mayGo_49 rfl (lv_at hl 3 rfl) ?_
          refine va_get (D := G) (ci := 11) (v := .ref (am 16)) (C := RX12) (T := TX12) (N := 52) hx hb hts in_X12 hown hK hP 0 (aM_0 _ _ _ _ _) rfl 27 (by decide) (hts _ q1292) (fun _ h9 => h9) rfl dX12_mayGo_50 ?_
          refine lv_iload hx hb dX12_mayGo_53 (lv_at hl 0 rfl) ?_
          refine li_iald (g := (ρ 27)) hx hb hK hP 16 0 (aM_16 _ _ _ _ _) rfl (by decide) (by decide) (by decide) dX12_mayGo_55 ?_
          have r56 := hs0 0
          refine lv_iload_n hx hb dX12_mayGo_56 rfl (lv_at hl 5 rfl) ?_
          refine li_icmp_ne (tgt := 64) hx hb (rgi r56.1 r56.2) ⟨by omega, by omega⟩ dX12_mayGo_57 (by decide) (fun c57 => ?_) (fun c57 => ?_)
          · refine li_iconst hx hb dX12_mayGo_64 ?_
            exact J37 _ (up_x (p := 0) hj7 (fun q => c57 (q (show t1 % 2 = 1 by omega)))) ls (lv_sub hl [0, 1, 2, 3, 4, 5, 6] rfl)
          · refine li_iconst hx hb dX12_mayGo_60 ?_
            refine lv_goto (tgt := 65) hx hb dX12_mayGo_61 (by decide) ?_
            exact J37 _ (up_1 (p := 0) hj7 c37 (fun _ => by omega)) ls (lv_sub hl [0, 1, 2, 3, 4, 5, 6] rfl)
  refine li_icmp_ge (tgt := 14) hx hb ⟨by omega, by omega⟩ (by rw [mP]; exact p2_rg h9a h9b) dX12_mayGo_7 (by decide) (fun c7 => ?_) (fun c7 => ?_)
  · refine li_iconst hx hb dX12_mayGo_14 ?_
    exact J7 _ (up_i0 (by rw [← mP]; exact Int.not_lt.mpr c7)) ls (lv_sub hl [0, 1, 2, 3] rfl)
  · refine li_iconst hx hb dX12_mayGo_10 ?_
    refine lv_goto (tgt := 15) hx hb dX12_mayGo_11 (by decide) ?_
    exact J7 _ (up_i1 (by rw [← mP]; exact c7)) ls (lv_sub hl [0, 1, 2, 3] rfl)
set_option maxHeartbeats 4000000 in
theorem m_minutesOfM (l : Launch) (G : va_G) (am : Nat → Nat) (ty : Nat → ClassId) (τ ρ : mem) (cs : va_W) (m1 : Int) (F : mem) (hF : okF F) (hSm : Sim F τ) (hSt : wfS (ρ 27) (ρ 28)) (hT : isT m1) : cR l yX12_minutesOf (ws_ yX12_minutesOf cX12_minutesOf 16 (some .int)) (rm4 2 0 0 46) G ty (wM am ty τ ρ ++ cs) [.ref (am 0), .int (ii m1)] (fun r => ∃ (z : Int), r = some (.int (ii z)) ∧ ((mvOk F (ρ 27) (ρ 28) m1 ∧ z = mvV F m1) ∨ (¬ mvOk F (ρ 27) (ρ 28) m1 ∧ z = -1))) := by
  refine cR.of (by decide) (Nat.le_of_ble_eq_true rfl) ?_
  intro p e s m args below meth c Q hQ hx hb hr hml hown hlk hts hK hP hD hX ls hl
  have hl : lv_has ls 16 [(0, .ref (am 0)), (1, .int (ii m1))] := hl
  obtain ⟨hW, hWS, hlg⟩ := id hF
  obtain ⟨hw0, hw1, hw2, hw3, hw4, hw5, h8a, h8b, h9a, h9b, h10a, h10b⟩ := id hW
  obtain ⟨mL, mP, mR, mC, mK, mM, mA, mB, mD⟩ := id hSm
  obtain ⟨hs0, hs1⟩ := id hSt
  have hd := isT_m hT
  have hm0 := hT.1
  have hm1 := hT.2.1
  have hon := ones_b (v := m1 / 1000 % 10) (by omega) (by omega)
  refine lv_iload_n hx hb dX12_minutesOf_0 rfl (lv_at hl 1 rfl) ?_
  refine li_sipush hx hb dX12_minutesOf_1 (by decide) ?_
  refine li_div hx hb (by omega) (by omega) (by omega) (by omega) dX12_minutesOf_4 ?_
  refine lv_istore_n (lv' := [(2, .int (ii (m1 / 10000))), (0, .ref (am 0)), (1, .int (ii m1))]) hx hb dX12_minutesOf_5 rfl hl (by decide) rfl (fun ls hl => ?_)
  refine lv_iload_n hx hb dX12_minutesOf_6 rfl (lv_at hl 2 rfl) ?_
  refine li_sipush hx hb dX12_minutesOf_7 (by decide) ?_
  refine li_div hx hb (by omega) (by omega) (by omega) (by omega) dX12_minutesOf_10 ?_
  refine li_bipush hx hb dX12_minutesOf_11 (by decide) ?_
  refine li_rem hx hb (by omega) (by omega) (by omega) (by omega) dX12_minutesOf_13 ?_
  refine lv_istore_n (lv' := [(3, .int (ii ((m1 / 1000) % 10))), (2, .int (ii (m1 / 10000))), (0, .ref (am 0)), (1, .int (ii m1))]) hx hb dX12_minutesOf_14 rfl hl (by decide) rfl (fun ls hl => ?_)
  refine lv_iload_n hx hb dX12_minutesOf_15 rfl (lv_at hl 3 rfl) ?_
  refine li_bipush hx hb dX12_minutesOf_16 (by decide) ?_
  refine li_div hx hb (by omega) (by omega) (by omega) (by omega) dX12_minutesOf_18 ?_
  refine li_bipush hx hb dX12_minutesOf_19 (by decide) ?_
  refine li_rem hx hb (by omega) (by omega) (by omega) (by omega) dX12_minutesOf_21 ?_
  refine lv_istore (lv' := [(4, .int (ii ((m1 / 100) % 10))), (3, .int (ii ((m1 / 1000) % 10))), (2, .int (ii (m1 / 10000))), (0, .ref (am 0)), (1, .int (ii m1))]) hx hb dX12_minutesOf_22 hl (by decide) rfl (fun ls hl => ?_)
  refine lv_iload_n hx hb dX12_minutesOf_24 rfl (lv_at hl 4 rfl) ?_
  refine li_bipush hx hb dX12_minutesOf_25 (by decide) ?_
  refine li_div hx hb (by omega) (by omega) (by omega) (by omega) dX12_minutesOf_27 ?_
  refine li_bipush hx hb dX12_minutesOf_28 (by decide) ?_
  refine li_rem hx hb (by omega) (by omega) (by omega) (by omega) dX12_minutesOf_30 ?_
  refine lv_istore (lv' := [(5, .int (ii ((m1 / 10) % 10))), (4, .int (ii ((m1 / 100) % 10))), (3, .int (ii ((m1 / 1000) % 10))), (2, .int (ii (m1 / 10000))), (0, .ref (am 0)), (1, .int (ii m1))]) hx hb dX12_minutesOf_31 hl (by decide) rfl (fun ls hl => ?_)
  refine lv_iload_n hx hb dX12_minutesOf_33 rfl (lv_at hl 5 rfl) ?_
  refine li_bipush hx hb dX12_minutesOf_34 (by decide) ?_
  refine li_rem hx hb (by omega) (by omega) (by omega) (by omega) dX12_minutesOf_36 ?_
  refine lv_istore (lv' := [(6, .int (ii (m1 % 10))), (5, .int (ii ((m1 / 10) % 10))), (4, .int (ii ((m1 / 100) % 10))), (3, .int (ii ((m1 / 1000) % 10))), (2, .int (ii (m1 / 10000))), (0, .ref (am 0)), (1, .int (ii m1))]) hx hb dX12_minutesOf_37 hl (by decide) rfl (fun ls hl => ?_)
  refine lv_aload_n hx hb dX12_minutesOf_39 rfl (lv_at hl 5 rfl) ?_
  refine lv_iload hx hb dX12_minutesOf_40 (lv_at hl 1 rfl) ?_
  refine kR (va_runV (As := [.int (ii ((m1 / 10) % 10))]) (rest := []) ⟨hx, hb, hml, hown, hts⟩ (m_isLedgeM l G am ty τ ρ cs ((m1 / 10) % 10) _ (show okF F from hF) (show Sim F τ from hSm) (show rg ((m1 / 10) % 10) from ⟨by omega, by omega⟩)) (cwV 1 hts (lw_V q1465 q1467 qs44 q87 q1468) rfl rfl rfl (by decide +kernel) ⟨Nat.le_of_ble_eq_true rfl, Nat.le_of_ble_eq_true rfl⟩) (pvR (r := (RX12, TX12, 52)) hK hP hD hX 0 (aM_0 _ _ _ _ _) rfl) rfl rfl hl.1 rfl (lv_room (Nat.le_of_ble_eq_true rfl)) dX12_minutesOf_42 ⟨Nat.le_of_ble_eq_true rfl, Nat.le_of_ble_eq_true rfl⟩) (fun v hv => ?_)
  obtain ⟨z42, rfl, ⟨rfl, hb42⟩ | ⟨rfl, hb42⟩⟩ := hv
  · have hb42 : 0 ≤ ((m1 / 10) % 10) ∧ ((m1 / 10) % 10) < F 8 0 := hb42
    refine li_if_eq (tgt := 103) hx hb ⟨by decide, by decide⟩ dX12_minutesOf_45 (by decide) (fun c45 => ?_) (fun c45 => ?_)
    · exact absurd c45 (by decide)
    · refine lv_aload_n hx hb dX12_minutesOf_48 rfl (lv_at hl 5 rfl) ?_
      refine lv_iload hx hb dX12_minutesOf_49 (lv_at hl 0 rfl) ?_
      refine kR (va_runV (As := [.int (ii (m1 % 10))]) (rest := []) ⟨hx, hb, hml, hown, hts⟩ (m_isLedgeM l G am ty τ ρ cs (m1 % 10) _ (show okF F from hF) (show Sim F τ from hSm) (show rg (m1 % 10) from ⟨by omega, by omega⟩)) (cwV 1 hts (lw_V q1465 q1467 qs44 q87 q1468) rfl rfl rfl (by decide +kernel) ⟨Nat.le_of_ble_eq_true rfl, Nat.le_of_ble_eq_true rfl⟩) (pvR (r := (RX12, TX12, 52)) hK hP hD hX 0 (aM_0 _ _ _ _ _) rfl) rfl rfl hl.1 rfl (lv_room (Nat.le_of_ble_eq_true rfl)) dX12_minutesOf_51 ⟨Nat.le_of_ble_eq_true rfl, Nat.le_of_ble_eq_true rfl⟩) (fun v hv => ?_)
      obtain ⟨z51, rfl, ⟨rfl, hb51⟩ | ⟨rfl, hb51⟩⟩ := hv
      · have hb51 : 0 ≤ (m1 % 10) ∧ (m1 % 10) < F 8 0 := hb51
        refine li_if_eq (tgt := 103) hx hb ⟨by decide, by decide⟩ dX12_minutesOf_54 (by decide) (fun c54 => ?_) (fun c54 => ?_)
        · exact absurd c54 (by decide)
        · refine lv_iload hx hb dX12_minutesOf_57 (lv_at hl 1 rfl) ?_
          refine lv_iload hx hb dX12_minutesOf_59 (lv_at hl 0 rfl) ?_
          refine li_icmp_eq (tgt := 103) hx hb ⟨by omega, by omega⟩ ⟨by omega, by omega⟩ dX12_minutesOf_61 (by decide) (fun c61 => ?_) (fun c61 => ?_)
          · refine li_iconst hx hb dX12_minutesOf_103 ?_
            exact eRi hQ hx hb hr hlk dX12_minutesOf_104 (⟨-1, rfl, .inr ⟨fun q => by have h9 := mnOk_pre (show 0 ≤ m1 / 1000 % 10 ∧ m1 / 1000 % 10 ≤ 7 by omega) h9a h9b h10a h10b q; have h8 := h9.2.2.2.2.2.1; omega, rfl⟩⟩)
          · refine lv_iload_n hx hb dX12_minutesOf_64 rfl (lv_at hl 4 rfl) ?_
            refine li_if_eq (tgt := 103) hx hb ⟨by omega, by omega⟩ dX12_minutesOf_65 (by decide) (fun c65 => ?_) (fun c65 => ?_)
            · refine li_iconst hx hb dX12_minutesOf_103 ?_
              exact eRi hQ hx hb hr hlk dX12_minutesOf_104 (⟨-1, rfl, .inr ⟨fun q => by have h9 := mnOk_pre (show 0 ≤ m1 / 1000 % 10 ∧ m1 / 1000 % 10 ≤ 7 by omega) h9a h9b h10a h10b q; have h8 := h9.2.2.2.2.2.1; omega, rfl⟩⟩)
            · refine lv_iload_n hx hb dX12_minutesOf_68 rfl (lv_at hl 3 rfl) ?_
              have J69 : ∀ (_ : (m1 / 1000 % 10 = 0 ↔ m1 / 10000 = 6)) (ls : Array Slot), lv_has ls 16 [(6, .int (ii (m1 % 10))), (5, .int (ii ((m1 / 10) % 10))), (4, .int (ii ((m1 / 100) % 10))), (3, .int (ii ((m1 / 1000) % 10))), (2, .int (ii (m1 / 10000))), (0, .ref (am 0)), (1, .int (ii m1))] → W p l e (rm4 2 0 0 46) s m args below meth c s.heap [] 0 0 Q (F0 m 91 ls []) := by
                intro hj69 ls hl
                have hS6 := hj69
                refine lv_aload_n hx hb dX12_minutesOf_91 rfl (lv_at hl 5 rfl) ?_
                refine lv_iload_n hx hb dX12_minutesOf_92 rfl (lv_at hl 3 rfl) ?_
                refine lv_iload hx hb dX12_minutesOf_93 (lv_at hl 1 rfl) ?_
                refine lv_iload hx hb dX12_minutesOf_95 (lv_at hl 0 rfl) ?_
                refine kR (va_runV (As := [.int (ii ((m1 / 1000) % 10)), .int (ii ((m1 / 10) % 10)), .int (ii (m1 % 10))]) (rest := []) ⟨hx, hb, hml, hown, hts⟩ (m_mayGoM l G am ty τ ρ cs ((m1 / 1000) % 10) ((m1 / 10) % 10) (m1 % 10) _ (show okF F from hF) (show Sim F τ from hSm) (show wfS (ρ 27) (ρ 28) from hSt) (show 0 ≤ ((m1 / 1000) % 10) ∧ ((m1 / 1000) % 10) ≤ 7 from ⟨by omega, by omega⟩) (show 0 ≤ ((m1 / 10) % 10) ∧ ((m1 / 10) % 10) ≤ 4 from ⟨by omega, by omega⟩) (show 0 ≤ (m1 % 10) ∧ (m1 % 10) < F 8 0 from hb51)) (cwV 3 hts (lw_V q1526 q1528 qs49 q87 q1529) rfl rfl rfl (by decide +kernel) ⟨Nat.le_of_ble_eq_true rfl, Nat.le_of_ble_eq_true rfl⟩) (pvR (r := (RX12, TX12, 52)) hK hP hD hX 0 (aM_0 _ _ _ _ _) rfl) rfl rfl hl.1 rfl (lv_room (Nat.le_of_ble_eq_true rfl)) dX12_minutesOf_97 ⟨Nat.le_of_ble_eq_true rfl, Nat.le_of_ble_eq_true rfl⟩) (fun v hv => ?_)
                obtain ⟨z97, rfl, ⟨rfl, hb97⟩ | ⟨rfl, hb97⟩⟩ := hv
                · have hb97 : mgOk F (ρ 27) ((m1 / 1000) % 10) ((m1 / 10) % 10) (m1 % 10) := hb97
                  refine li_if_ne (tgt := 105) hx hb ⟨by decide, by decide⟩ dX12_minutesOf_100 (by decide) (fun c100 => ?_) (fun c100 => ?_)
                  · refine lv_iload_n hx hb dX12_minutesOf_105 rfl (lv_at hl 3 rfl) ?_
                    refine kR (va_runS (As := [.int (ii ((m1 / 1000) % 10))]) (rest := []) ⟨hx, hb, hml, hown, hts⟩ (m_onesM l G ty (wM am ty τ ρ ++ cs) ((m1 / 1000) % 10) ⟨by omega, by omega⟩) (va_cwS 1 hts (lw_S q1530 q1531 q87 q1532) rfl rfl rfl (by decide +kernel) ⟨Nat.le_of_ble_eq_true rfl, Nat.le_of_ble_eq_true rfl⟩) (psR hK hP hD hX) rfl rfl hl.1 rfl (lv_room (Nat.le_of_ble_eq_true rfl)) dX12_minutesOf_106 ⟨Nat.le_of_ble_eq_true rfl, Nat.le_of_ble_eq_true rfl⟩) (fun v hv => ?_)
                    obtain ⟨z106, rfl, rfl⟩ := hv
                    refine lv_istore (lv' := [(7, .int (ii (ones ((m1 / 1000) % 10)))), (6, .int (ii (m1 % 10))), (5, .int (ii ((m1 / 10) % 10))), (4, .int (ii ((m1 / 100) % 10))), (3, .int (ii ((m1 / 1000) % 10))), (2, .int (ii (m1 / 10000))), (0, .ref (am 0)), (1, .int (ii m1))]) hx hb dX12_minutesOf_109 hl (by decide) rfl (fun ls hl => ?_)
                    refine lv_iload hx hb dX12_minutesOf_111 (lv_at hl 1 rfl) ?_
                    refine lv_iload hx hb dX12_minutesOf_113 (lv_at hl 2 rfl) ?_
                    refine li_icmp_le (tgt := 129) hx hb ⟨by omega, by omega⟩ ⟨by omega, by omega⟩ dX12_minutesOf_115 (by decide) (fun c115 => ?_) (fun c115 => ?_)
                    · refine lv_aload_n hx hb dX12_minutesOf_129 rfl (lv_at hl 6 rfl) ?_
                      refine lv_iload hx hb dX12_minutesOf_130 (lv_at hl 1 rfl) ?_
                      refine lv_iload hx hb dX12_minutesOf_132 (lv_at hl 2 rfl) ?_
                      refine kR (va_runV (As := [.int (ii (m1 % 10)), .int (ii ((m1 / 10) % 10))]) (rest := []) ⟨hx, hb, hml, hown, hts⟩ (m_farM l G am ty τ ρ cs (m1 % 10) ((m1 / 10) % 10) _ (show okF F from hF) (show Sim F τ from hSm) (show 0 ≤ (m1 % 10) ∧ (m1 % 10) ≤ ((m1 / 10) % 10) ∧ ((m1 / 10) % 10) ≤ F 8 0 from ⟨by omega, by omega, by omega⟩)) (cwV 2 hts (lw_V q1502 q1504 qs45 q87 q1505) rfl rfl rfl (by decide +kernel) ⟨Nat.le_of_ble_eq_true rfl, Nat.le_of_ble_eq_true rfl⟩) (pvR (r := (RX12, TX12, 52)) hK hP hD hX 0 (aM_0 _ _ _ _ _) rfl) rfl rfl hl.1 rfl (lv_room (Nat.le_of_ble_eq_true rfl)) dX12_minutesOf_134 ⟨Nat.le_of_ble_eq_true rfl, Nat.le_of_ble_eq_true rfl⟩) (fun v hv => ?_)
                      obtain ⟨rfl, hzb134⟩ := hv
                      have hzb134 : 0 ≤ fs (F 2) (m1 % 10) ((m1 / 10) % 10) ∧ fs (F 2) (m1 % 10) ((m1 / 10) % 10) ≤ 1000 := hzb134
                      refine lv_istore (lv' := [(8, .int (ii (fs (F 2) (m1 % 10) ((m1 / 10) % 10)))), (7, .int (ii (ones ((m1 / 1000) % 10)))), (6, .int (ii (m1 % 10))), (5, .int (ii ((m1 / 10) % 10))), (4, .int (ii ((m1 / 100) % 10))), (3, .int (ii ((m1 / 1000) % 10))), (2, .int (ii (m1 / 10000))), (0, .ref (am 0)), (1, .int (ii m1))]) hx hb dX12_minutesOf_137 hl (by decide) rfl (fun ls hl => ?_)
                      refine lv_iload hx hb dX12_minutesOf_139 (lv_at hl 1 rfl) ?_
                      refine lv_iload hx hb dX12_minutesOf_141 (lv_at hl 0 rfl) ?_
                      refine li_bipush hx hb dX12_minutesOf_143 (by decide) ?_
                      refine li_div hx hb (by omega) (by omega) (by omega) (by omega) dX12_minutesOf_145 ?_
                      refine li_iconst hx hb dX12_minutesOf_146 ?_
                      refine li_add hx hb dX12_minutesOf_147 ?_
                      refine li_mul hx hb dX12_minutesOf_148 ?_
                      refine lv_istore (lv' := [(9, .int (ii ((ones ((m1 / 1000) % 10)) * ((fs (F 2) (m1 % 10) ((m1 / 10) % 10)) / 10 + 1)))), (8, .int (ii (fs (F 2) (m1 % 10) ((m1 / 10) % 10)))), (7, .int (ii (ones ((m1 / 1000) % 10)))), (6, .int (ii (m1 % 10))), (5, .int (ii ((m1 / 10) % 10))), (4, .int (ii ((m1 / 100) % 10))), (3, .int (ii ((m1 / 1000) % 10))), (2, .int (ii (m1 / 10000))), (0, .ref (am 0)), (1, .int (ii m1))]) hx hb dX12_minutesOf_149 hl (by decide) rfl (fun ls hl => ?_)
                      refine lv_iload hx hb dX12_minutesOf_151 (lv_at hl 3 rfl) ?_
                      refine lv_iload hx hb dX12_minutesOf_153 (lv_at hl 4 rfl) ?_
                      refine li_icmp_le (tgt := 162) hx hb ⟨by omega, by omega⟩ ⟨by omega, by omega⟩ dX12_minutesOf_155 (by decide) (fun c155 => ?_) (fun c155 => ?_)
                      · refine li_iconst hx hb dX12_minutesOf_162 ?_
                        refine lv_istore (lv' := [(10, .int (ii 0)), (9, .int (ii ((ones ((m1 / 1000) % 10)) * ((fs (F 2) (m1 % 10) ((m1 / 10) % 10)) / 10 + 1)))), (8, .int (ii (fs (F 2) (m1 % 10) ((m1 / 10) % 10)))), (7, .int (ii (ones ((m1 / 1000) % 10)))), (6, .int (ii (m1 % 10))), (5, .int (ii ((m1 / 10) % 10))), (4, .int (ii ((m1 / 100) % 10))), (3, .int (ii ((m1 / 1000) % 10))), (2, .int (ii (m1 / 10000))), (0, .ref (am 0)), (1, .int (ii m1))]) hx hb dX12_minutesOf_163 hl (by decide) rfl (fun ls hl => ?_)
                        refine lv_iload hx hb dX12_minutesOf_165 (lv_at hl 0 rfl) ?_
                        refine li_if_eq (tgt := 193) hx hb ⟨by decide, by decide⟩ dX12_minutesOf_167 (by decide) (fun c167 => ?_) (fun c167 => ?_)
                        · refine li_iconst hx hb dX12_minutesOf_193 ?_
                          refine lv_istore (lv' := [(11, .int (ii 0)), (10, .int (ii 0)), (9, .int (ii ((ones ((m1 / 1000) % 10)) * ((fs (F 2) (m1 % 10) ((m1 / 10) % 10)) / 10 + 1)))), (8, .int (ii (fs (F 2) (m1 % 10) ((m1 / 10) % 10)))), (7, .int (ii (ones ((m1 / 1000) % 10)))), (6, .int (ii (m1 % 10))), (5, .int (ii ((m1 / 10) % 10))), (4, .int (ii ((m1 / 100) % 10))), (3, .int (ii ((m1 / 1000) % 10))), (2, .int (ii (m1 / 10000))), (0, .ref (am 0)), (1, .int (ii m1))]) hx hb dX12_minutesOf_194 hl (by decide) rfl (fun ls hl => ?_)
                          refine lv_iload_n hx hb dX12_minutesOf_196 rfl (lv_at hl 9 rfl) ?_
                          rcases (show m1 / 10000 = 1 ∨ m1 / 10000 = 2 ∨ m1 / 10000 = 3 ∨ m1 / 10000 = 4 ∨ m1 / 10000 = 5 ∨ (m1 / 10000 < 1 ∨ 5 < m1 / 10000) by omega) with c197 | c197 | c197 | c197 | c197 | c197
                          · refine lv_tableIn (off := 35) (tgt := 232) hx hb dX12_minutesOf_197 (by rw [ii_t ⟨by omega, by omega⟩]; omega) (by rw [ii_t ⟨by omega, by omega⟩]; omega) (by rw [ii_t ⟨by omega, by omega⟩, c197]; rfl) (by decide) ?_
                            refine lv_iload hx hb dX12_minutesOf_232 (lv_at hl 0 rfl) ?_
                            refine li_if_eq (tgt := 269) hx hb ⟨by decide, by decide⟩ dX12_minutesOf_234 (by decide) (fun c234 => ?_) (fun c234 => ?_)
                            · refine li_iconst hx hb dX12_minutesOf_269 ?_
                              exact eRi hQ hx hb hr hlk dX12_minutesOf_270 (⟨-1, rfl, .inr ⟨fun q => by have q := (mnx1 hW (show 0 ≤ m1 / 1000 % 10 ∧ m1 / 1000 % 10 ≤ 7 by omega) hb42 hb51 c61 hS6 hb97 c197).mp q; omega, rfl⟩⟩)
                            · exact absurd c234 (by decide)
                          · refine lv_tableIn (off := 74) (tgt := 271) hx hb dX12_minutesOf_197 (by rw [ii_t ⟨by omega, by omega⟩]; omega) (by rw [ii_t ⟨by omega, by omega⟩]; omega) (by rw [ii_t ⟨by omega, by omega⟩, c197]; rfl) (by decide) ?_
                            refine lv_iload hx hb dX12_minutesOf_271 (lv_at hl 0 rfl) ?_
                            refine li_if_eq (tgt := 306) hx hb ⟨by decide, by decide⟩ dX12_minutesOf_273 (by decide) (fun c273 => ?_) (fun c273 => ?_)
                            · refine li_iconst hx hb dX12_minutesOf_306 ?_
                              exact eRi hQ hx hb hr hlk dX12_minutesOf_307 (⟨-1, rfl, .inr ⟨fun q => by have q := (mnx2 hW (show 0 ≤ m1 / 1000 % 10 ∧ m1 / 1000 % 10 ≤ 7 by omega) hb42 hb51 c61 hS6 hb97 c197).mp q; omega, rfl⟩⟩)
                            · exact absurd c273 (by decide)
                          · refine lv_tableIn (off := 111) (tgt := 308) hx hb dX12_minutesOf_197 (by rw [ii_t ⟨by omega, by omega⟩]; omega) (by rw [ii_t ⟨by omega, by omega⟩]; omega) (by rw [ii_t ⟨by omega, by omega⟩, c197]; rfl) (by decide) ?_
                            refine lv_iload hx hb dX12_minutesOf_308 (lv_at hl 7 rfl) ?_
                            have J310 : ∀ (y310_0 : Int) (_ : (y310_0 = 1 ∧ (m1 / 100 % 10 = 0 ∧ okRope F (ρ 28) 0 (m1 / 10 % 10) ∧ okRope F (ρ 28) 1 (m1 / 10 % 10) ∧ fs (F 2) (m1 % 10) ((m1 / 10) % 10) ≤ F 5 0 ∧ fs (F 2) (m1 % 10) ((m1 / 10) % 10) ≤ F 5 1)) ∨ (y310_0 = 0 ∧ ¬ (m1 / 100 % 10 = 0 ∧ okRope F (ρ 28) 0 (m1 / 10 % 10) ∧ okRope F (ρ 28) 1 (m1 / 10 % 10) ∧ fs (F 2) (m1 % 10) ((m1 / 10) % 10) ≤ F 5 0 ∧ fs (F 2) (m1 % 10) ((m1 / 10) % 10) ≤ F 5 1))) (ls : Array Slot), lv_has ls 16 [(11, .int (ii 0)), (10, .int (ii 0)), (9, .int (ii ((ones ((m1 / 1000) % 10)) * ((fs (F 2) (m1 % 10) ((m1 / 10) % 10)) / 10 + 1)))), (8, .int (ii (fs (F 2) (m1 % 10) ((m1 / 10) % 10)))), (7, .int (ii (ones ((m1 / 1000) % 10)))), (6, .int (ii (m1 % 10))), (5, .int (ii ((m1 / 10) % 10))), (4, .int (ii ((m1 / 100) % 10))), (3, .int (ii ((m1 / 1000) % 10))), (2, .int (ii (m1 / 10000))), (0, .ref (am 0)), (1, .int (ii m1))] → W p l e (rm4 2 0 0 46) s m args below meth c s.heap [] 0 0 Q (F0 m 360 ls [.int (ii y310_0)]) := by
                              intro y310_0 hj310 ls hl
                              refine lv_istore (lv' := [(12, .int (ii y310_0)), (11, .int (ii 0)), (10, .int (ii 0)), (9, .int (ii ((ones ((m1 / 1000) % 10)) * ((fs (F 2) (m1 % 10) ((m1 / 10) % 10)) / 10 + 1)))), (8, .int (ii (fs (F 2) (m1 % 10) ((m1 / 10) % 10)))), (7, .int (ii (ones ((m1 / 1000) % 10)))), (6, .int (ii (m1 % 10))), (5, .int (ii ((m1 / 10) % 10))), (4, .int (ii ((m1 / 100) % 10))), (3, .int (ii ((m1 / 1000) % 10))), (2, .int (ii (m1 / 10000))), (0, .ref (am 0)), (1, .int (ii m1))]) hx hb dX12_minutesOf_360 hl (by decide) rfl (fun ls hl => ?_)
                              refine lv_iload hx hb dX12_minutesOf_362 (lv_at hl 1 rfl) ?_
                              refine li_if_eq (tgt := 380) hx hb ⟨by decide, by decide⟩ dX12_minutesOf_364 (by decide) (fun c364 => ?_) (fun c364 => ?_)
                              · refine li_iconst hx hb dX12_minutesOf_380 ?_
                                exact eRi hQ hx hb hr hlk dX12_minutesOf_381 (⟨-1, rfl, .inr ⟨fun q => by have q := (mnx3 hW (show 0 ≤ m1 / 1000 % 10 ∧ m1 / 1000 % 10 ≤ 7 by omega) hb42 hb51 c61 hS6 hb97 c197).mp q; omega, rfl⟩⟩)
                              · exact absurd c364 (by decide)
                            refine li_if_ne (tgt := 359) hx hb ⟨by omega, by omega⟩ dX12_minutesOf_310 (by decide) (fun c310 => ?_) (fun c310 => ?_)
                            · refine li_iconst hx hb dX12_minutesOf_359 ?_
                              exact J310 _ (.inr ⟨rfl, fun q => by have q1 := q.1; omega⟩) ls (lv_sub hl [0, 1, 2, 3, 4, 5, 6, 7, 8, 9, 10, 11] rfl)
                            · refine lv_aload_n hx hb dX12_minutesOf_313 rfl (lv_at hl 10 rfl) ?_
                              refine li_iconst hx hb dX12_minutesOf_314 ?_
                              refine lv_iload hx hb dX12_minutesOf_315 (lv_at hl 6 rfl) ?_
                              refine kR (va_runV (As := [.int (ii 0), .int (ii ((m1 / 10) % 10))]) (rest := []) ⟨hx, hb, hml, hown, hts⟩ (m_isRopeOnM l G am ty τ ρ cs 0 ((m1 / 10) % 10) _ (show okF F from hF) (show Sim F τ from hSm) (show wfS (ρ 27) (ρ 28) from hSt) (show 0 ≤ 0 ∧ 0 ≤ 1 from ⟨by omega, by omega⟩) (show rg ((m1 / 10) % 10) from ⟨by omega, by omega⟩)) (cwV 2 hts (lw_V q1537 q1539 qs51 q87 q1540) rfl rfl rfl (by decide +kernel) ⟨Nat.le_of_ble_eq_true rfl, Nat.le_of_ble_eq_true rfl⟩) (pvR (r := (RX12, TX12, 52)) hK hP hD hX 0 (aM_0 _ _ _ _ _) rfl) rfl rfl hl.1 rfl (lv_room (Nat.le_of_ble_eq_true rfl)) dX12_minutesOf_317 ⟨Nat.le_of_ble_eq_true rfl, Nat.le_of_ble_eq_true rfl⟩) (fun v hv => ?_)
                              obtain ⟨z317, rfl, ⟨rfl, hb317⟩ | ⟨rfl, hb317⟩⟩ := hv
                              · have hb317 : okRope F (ρ 28) 0 ((m1 / 10) % 10) := hb317
                                refine li_if_eq (tgt := 359) hx hb ⟨by decide, by decide⟩ dX12_minutesOf_320 (by decide) (fun c320 => ?_) (fun c320 => ?_)
                                · exact absurd c320 (by decide)
                                · refine lv_aload_n hx hb dX12_minutesOf_323 rfl (lv_at hl 10 rfl) ?_
                                  refine li_iconst hx hb dX12_minutesOf_324 ?_
                                  refine lv_iload hx hb dX12_minutesOf_325 (lv_at hl 6 rfl) ?_
                                  refine kR (va_runV (As := [.int (ii 1), .int (ii ((m1 / 10) % 10))]) (rest := []) ⟨hx, hb, hml, hown, hts⟩ (m_isRopeOnM l G am ty τ ρ cs 1 ((m1 / 10) % 10) _ (show okF F from hF) (show Sim F τ from hSm) (show wfS (ρ 27) (ρ 28) from hSt) (show 0 ≤ 1 ∧ 1 ≤ 1 from ⟨by omega, by omega⟩) (show rg ((m1 / 10) % 10) from ⟨by omega, by omega⟩)) (cwV 2 hts (lw_V q1537 q1539 qs51 q87 q1540) rfl rfl rfl (by decide +kernel) ⟨Nat.le_of_ble_eq_true rfl, Nat.le_of_ble_eq_true rfl⟩) (pvR (r := (RX12, TX12, 52)) hK hP hD hX 0 (aM_0 _ _ _ _ _) rfl) rfl rfl hl.1 rfl (lv_room (Nat.le_of_ble_eq_true rfl)) dX12_minutesOf_327 ⟨Nat.le_of_ble_eq_true rfl, Nat.le_of_ble_eq_true rfl⟩) (fun v hv => ?_)
                                  obtain ⟨z327, rfl, ⟨rfl, hb327⟩ | ⟨rfl, hb327⟩⟩ := hv
                                  · have hb327 : okRope F (ρ 28) 1 ((m1 / 10) % 10) := hb327
                                    refine li_if_eq (tgt := 359) hx hb ⟨by decide, by decide⟩ dX12_minutesOf_330 (by decide) (fun c330 => ?_) (fun c330 => ?_)
                                    · exact absurd c330 (by decide)
                                    · have hD3 := mDr mD (r := 0) hb317 (by decide)
                                      have hw5r := hw5 0
                                      have hD4 := mDr mD (r := 1) hb327 (by decide)
                                      have hw5s := hw5 1
                                      refine lv_iload hx hb dX12_minutesOf_333 (lv_at hl 3 rfl) ?_
                                      refine lv_aload_n hx hb dX12_minutesOf_335 rfl (lv_at hl 10 rfl) ?_
                                      refine va_get (D := G) (ci := 11) (v := .ref (am 6)) (C := RX12) (T := TX12) (N := 52) hx hb hts in_X12 hown hK hP 0 (aM_0 _ _ _ _ _) rfl 8 (by decide) (hts _ q1273) (fun _ h9 => h9) rfl dX12_minutesOf_336 ?_
                                      refine li_iconst hx hb dX12_minutesOf_339 ?_
                                      refine li_iald (g := (τ 8)) hx hb hK hP 6 0 (aM_6 _ _ _ _ _) rfl (by decide) (by decide) (by decide) dX12_minutesOf_340 ?_
                                      refine li_icmp_gt (tgt := 359) hx hb (rgi hzb134.1 hzb134.2) ⟨by omega, by omega⟩ dX12_minutesOf_341 (by decide) (fun c341 => ?_) (fun c341 => ?_)
                                      · refine li_iconst hx hb dX12_minutesOf_359 ?_
                                        exact J310 _ (.inr ⟨rfl, fun q => by have q1 := q.2.2.2.1; have q2 := q.2.2.2.2; omega⟩) ls (lv_sub hl [0, 1, 2, 3, 4, 5, 6, 7, 8, 9, 10, 11] rfl)
                                      · refine lv_iload hx hb dX12_minutesOf_344 (lv_at hl 3 rfl) ?_
                                        refine lv_aload_n hx hb dX12_minutesOf_346 rfl (lv_at hl 10 rfl) ?_
                                        refine va_get (D := G) (ci := 11) (v := .ref (am 6)) (C := RX12) (T := TX12) (N := 52) hx hb hts in_X12 hown hK hP 0 (aM_0 _ _ _ _ _) rfl 8 (by decide) (hts _ q1273) (fun _ h9 => h9) rfl dX12_minutesOf_347 ?_
                                        refine li_iconst hx hb dX12_minutesOf_350 ?_
                                        refine li_iald (g := (τ 8)) hx hb hK hP 6 0 (aM_6 _ _ _ _ _) rfl (by decide) (by decide) (by decide) dX12_minutesOf_351 ?_
                                        refine li_icmp_gt (tgt := 359) hx hb (rgi hzb134.1 hzb134.2) ⟨by omega, by omega⟩ dX12_minutesOf_352 (by decide) (fun c352 => ?_) (fun c352 => ?_)
                                        · refine li_iconst hx hb dX12_minutesOf_359 ?_
                                          exact J310 _ (.inr ⟨rfl, fun q => by have q1 := q.2.2.2.1; have q2 := q.2.2.2.2; omega⟩) ls (lv_sub hl [0, 1, 2, 3, 4, 5, 6, 7, 8, 9, 10, 11] rfl)
                                        · refine li_iconst hx hb dX12_minutesOf_355 ?_
                                          refine lv_goto (tgt := 360) hx hb dX12_minutesOf_356 (by decide) ?_
                                          exact J310 _ (.inl ⟨rfl, by omega, hb317, hb327, by omega, by omega⟩) ls (lv_sub hl [0, 1, 2, 3, 4, 5, 6, 7, 8, 9, 10, 11] rfl)
                                  · have hb327 : ¬ okRope F (ρ 28) 1 ((m1 / 10) % 10) := hb327
                                    refine li_if_eq (tgt := 359) hx hb ⟨by decide, by decide⟩ dX12_minutesOf_330 (by decide) (fun c330 => ?_) (fun c330 => ?_)
                                    · refine li_iconst hx hb dX12_minutesOf_359 ?_
                                      exact J310 _ (.inr ⟨rfl, fun q => hb327 q.2.2.1⟩) ls (lv_sub hl [0, 1, 2, 3, 4, 5, 6, 7, 8, 9, 10, 11] rfl)
                                    · exact absurd c330 (by decide)
                              · have hb317 : ¬ okRope F (ρ 28) 0 ((m1 / 10) % 10) := hb317
                                refine li_if_eq (tgt := 359) hx hb ⟨by decide, by decide⟩ dX12_minutesOf_320 (by decide) (fun c320 => ?_) (fun c320 => ?_)
                                · refine li_iconst hx hb dX12_minutesOf_359 ?_
                                  exact J310 _ (.inr ⟨rfl, fun q => hb317 q.2.1⟩) ls (lv_sub hl [0, 1, 2, 3, 4, 5, 6, 7, 8, 9, 10, 11] rfl)
                                · exact absurd c320 (by decide)
                          · refine lv_tableIn (off := 185) (tgt := 382) hx hb dX12_minutesOf_197 (by rw [ii_t ⟨by omega, by omega⟩]; omega) (by rw [ii_t ⟨by omega, by omega⟩]; omega) (by rw [ii_t ⟨by omega, by omega⟩, c197]; rfl) (by decide) ?_
                            refine lv_iload hx hb dX12_minutesOf_382 (lv_at hl 4 rfl) ?_
                            refine li_iconst hx hb dX12_minutesOf_384 ?_
                            refine li_icmp_ne (tgt := 435) hx hb (ones_rg (by omega) (by omega)) ⟨by decide, by decide⟩ dX12_minutesOf_385 (by decide) (fun c385 => ?_) (fun c385 => ?_)
                            · refine li_iconst hx hb dX12_minutesOf_435 ?_
                              exact eRi hQ hx hb hr hlk dX12_minutesOf_436 (⟨-1, rfl, .inr ⟨fun q => by have q := (mnx4 hW (show 0 ≤ m1 / 1000 % 10 ∧ m1 / 1000 % 10 ≤ 7 by omega) hb42 hb51 c61 hS6 hb97 c197).mp q; have q1 := q.1; have q2 := q.2.1; omega, rfl⟩⟩)
                            · refine lv_iload hx hb dX12_minutesOf_388 (lv_at hl 1 rfl) ?_
                              refine li_if_eq (tgt := 435) hx hb ⟨by decide, by decide⟩ dX12_minutesOf_390 (by decide) (fun c390 => ?_) (fun c390 => ?_)
                              · refine li_iconst hx hb dX12_minutesOf_435 ?_
                                exact eRi hQ hx hb hr hlk dX12_minutesOf_436 (⟨-1, rfl, .inr ⟨fun q => by have q := (mnx4 hW (show 0 ≤ m1 / 1000 % 10 ∧ m1 / 1000 % 10 ≤ 7 by omega) hb42 hb51 c61 hS6 hb97 c197).mp q; have q1 := q.1; have q2 := q.2.1; omega, rfl⟩⟩)
                              · exact absurd c390 (by decide)
                          · refine lv_tableIn (off := 240) (tgt := 437) hx hb dX12_minutesOf_197 (by rw [ii_t ⟨by omega, by omega⟩]; omega) (by rw [ii_t ⟨by omega, by omega⟩]; omega) (by rw [ii_t ⟨by omega, by omega⟩, c197]; rfl) (by decide) ?_
                            refine lv_iload hx hb dX12_minutesOf_437 (lv_at hl 1 rfl) ?_
                            refine li_if_eq (tgt := 447) hx hb ⟨by decide, by decide⟩ dX12_minutesOf_439 (by decide) (fun c439 => ?_) (fun c439 => ?_)
                            · refine lv_iload hx hb dX12_minutesOf_447 (lv_at hl 5 rfl) ?_
                              refine lv_istore (lv' := [(13, .int (ii (m1 % 10))), (11, .int (ii 0)), (10, .int (ii 0)), (9, .int (ii ((ones ((m1 / 1000) % 10)) * ((fs (F 2) (m1 % 10) ((m1 / 10) % 10)) / 10 + 1)))), (8, .int (ii (fs (F 2) (m1 % 10) ((m1 / 10) % 10)))), (7, .int (ii (ones ((m1 / 1000) % 10)))), (6, .int (ii (m1 % 10))), (5, .int (ii ((m1 / 10) % 10))), (4, .int (ii ((m1 / 100) % 10))), (3, .int (ii ((m1 / 1000) % 10))), (2, .int (ii (m1 / 10000))), (0, .ref (am 0)), (1, .int (ii m1))]) hx hb dX12_minutesOf_449 hl (by decide) rfl (fun ls hl => ?_)
                              refine lv_iload hx hb dX12_minutesOf_451 (lv_at hl 6 rfl) ?_
                              refine lv_iload hx hb dX12_minutesOf_453 (lv_at hl 7 rfl) ?_
                              refine li_sub hx hb dX12_minutesOf_455 ?_
                              refine li_iconst hx hb dX12_minutesOf_456 ?_
                              have J457 : ∀ (y457_0 : Int) (_ : (((m1 % 10 - ((m1 / 10) % 10)) = 1) ∧ y457_0 = 1) ∨ ((¬ (m1 % 10 - ((m1 / 10) % 10)) = 1) ∧ (¬ ((m1 / 10) % 10 - (m1 % 10)) = 1) ∧ y457_0 = 0) ∨ ((¬ (m1 % 10 - ((m1 / 10) % 10)) = 1) ∧ (((m1 / 10) % 10 - (m1 % 10)) = 1) ∧ y457_0 = 1)) (ls : Array Slot), lv_has ls 16 [(13, .int (ii (m1 % 10))), (11, .int (ii 0)), (10, .int (ii 0)), (9, .int (ii ((ones ((m1 / 1000) % 10)) * ((fs (F 2) (m1 % 10) ((m1 / 10) % 10)) / 10 + 1)))), (8, .int (ii (fs (F 2) (m1 % 10) ((m1 / 10) % 10)))), (7, .int (ii (ones ((m1 / 1000) % 10)))), (6, .int (ii (m1 % 10))), (5, .int (ii ((m1 / 10) % 10))), (4, .int (ii ((m1 / 100) % 10))), (3, .int (ii ((m1 / 1000) % 10))), (2, .int (ii (m1 / 10000))), (0, .ref (am 0)), (1, .int (ii m1))] → W p l e (rm4 2 0 0 46) s m args below meth c s.heap [] 0 0 Q (F0 m 474 ls [.int (ii y457_0)]) := by
                                intro y457_0 hj457 ls hl
                                refine lv_istore (lv' := [(14, .int (ii y457_0)), (13, .int (ii (m1 % 10))), (11, .int (ii 0)), (10, .int (ii 0)), (9, .int (ii ((ones ((m1 / 1000) % 10)) * ((fs (F 2) (m1 % 10) ((m1 / 10) % 10)) / 10 + 1)))), (8, .int (ii (fs (F 2) (m1 % 10) ((m1 / 10) % 10)))), (7, .int (ii (ones ((m1 / 1000) % 10)))), (6, .int (ii (m1 % 10))), (5, .int (ii ((m1 / 10) % 10))), (4, .int (ii ((m1 / 100) % 10))), (3, .int (ii ((m1 / 1000) % 10))), (2, .int (ii (m1 / 10000))), (0, .ref (am 0)), (1, .int (ii m1))]) hx hb dX12_minutesOf_474 hl (by decide) rfl (fun ls hl => ?_)
                                refine lv_iload hx hb dX12_minutesOf_476 (lv_at hl 6 rfl) ?_
                                refine li_iconst hx hb dX12_minutesOf_478 ?_
                                have J479 : ∀ (y479_0 : Int) (_ : (y479_0 = 1 ∧ (ones (m1 / 1000 % 10) = 1 ∧ F 4 (m1 / 1000 % 10 / 2) = 0)) ∨ (y479_0 = 0 ∧ ¬ (ones (m1 / 1000 % 10) = 1 ∧ F 4 (m1 / 1000 % 10 / 2) = 0))) (ls : Array Slot), lv_has ls 16 [(14, .int (ii y457_0)), (13, .int (ii (m1 % 10))), (11, .int (ii 0)), (10, .int (ii 0)), (9, .int (ii ((ones ((m1 / 1000) % 10)) * ((fs (F 2) (m1 % 10) ((m1 / 10) % 10)) / 10 + 1)))), (8, .int (ii (fs (F 2) (m1 % 10) ((m1 / 10) % 10)))), (7, .int (ii (ones ((m1 / 1000) % 10)))), (6, .int (ii (m1 % 10))), (5, .int (ii ((m1 / 10) % 10))), (4, .int (ii ((m1 / 100) % 10))), (3, .int (ii ((m1 / 1000) % 10))), (2, .int (ii (m1 / 10000))), (0, .ref (am 0)), (1, .int (ii m1))] → W p l e (rm4 2 0 0 46) s m args below meth c s.heap [] 0 0 Q (F0 m 498 ls [.int (ii y479_0)]) := by
                                  intro y479_0 hj479 ls hl
                                  refine lv_istore (lv' := [(15, .int (ii y479_0)), (14, .int (ii y457_0)), (13, .int (ii (m1 % 10))), (11, .int (ii 0)), (10, .int (ii 0)), (9, .int (ii ((ones ((m1 / 1000) % 10)) * ((fs (F 2) (m1 % 10) ((m1 / 10) % 10)) / 10 + 1)))), (8, .int (ii (fs (F 2) (m1 % 10) ((m1 / 10) % 10)))), (7, .int (ii (ones ((m1 / 1000) % 10)))), (6, .int (ii (m1 % 10))), (5, .int (ii ((m1 / 10) % 10))), (4, .int (ii ((m1 / 100) % 10))), (3, .int (ii ((m1 / 1000) % 10))), (2, .int (ii (m1 / 10000))), (0, .ref (am 0)), (1, .int (ii m1))]) hx hb dX12_minutesOf_498 hl (by decide) rfl (fun ls hl => ?_)
                                  refine lv_iload hx hb dX12_minutesOf_500 (lv_at hl 10 rfl) ?_
                                  refine li_if_ne (tgt := 543) hx hb ⟨by omega, by omega⟩ dX12_minutesOf_502 (by decide) (fun c502 => ?_) (fun c502 => ?_)
                                  · refine li_iconst hx hb dX12_minutesOf_543 ?_
                                    exact eRi hQ hx hb hr hlk dX12_minutesOf_544 (⟨-1, rfl, .inr ⟨fun q => by have q := (mnx5 hW (show 0 ≤ m1 / 1000 % 10 ∧ m1 / 1000 % 10 ≤ 7 by omega) hb42 hb51 c61 hS6 hb97 c197).mp q; have q1 := q.1; have q2 := q.2.1; omega, rfl⟩⟩)
                                  · refine lv_iload hx hb dX12_minutesOf_505 (lv_at hl 1 rfl) ?_
                                    refine li_if_eq (tgt := 543) hx hb ⟨by omega, by omega⟩ dX12_minutesOf_507 (by decide) (fun c507 => ?_) (fun c507 => ?_)
                                    · refine li_iconst hx hb dX12_minutesOf_543 ?_
                                      exact eRi hQ hx hb hr hlk dX12_minutesOf_544 (⟨-1, rfl, .inr ⟨fun q => by have q := (mnx5 hW (show 0 ≤ m1 / 1000 % 10 ∧ m1 / 1000 % 10 ≤ 7 by omega) hb42 hb51 c61 hS6 hb97 c197).mp q; have q1 := q.1; have q2 := q.2.1; omega, rfl⟩⟩)
                                    · refine lv_iload hx hb dX12_minutesOf_510 (lv_at hl 0 rfl) ?_
                                      refine li_if_eq (tgt := 543) hx hb ⟨by omega, by omega⟩ dX12_minutesOf_512 (by decide) (fun c512 => ?_) (fun c512 => ?_)
                                      · refine li_iconst hx hb dX12_minutesOf_543 ?_
                                        exact eRi hQ hx hb hr hlk dX12_minutesOf_544 (⟨-1, rfl, .inr ⟨fun q => by have q := (mnx5 hW (show 0 ≤ m1 / 1000 % 10 ∧ m1 / 1000 % 10 ≤ 7 by omega) hb42 hb51 c61 hS6 hb97 c197).mp q; exact (hj479.resolve_left (fun z => by omega)).2 ⟨q.2.2.1, q.2.2.2.1⟩, rfl⟩⟩)
                                      · have hA3 := (mA (m1 % 10) (by omega) (by omega)).2.2.2
                                        have hw3r := hw3 (m1 % 10)
                                        refine lv_aload_n hx hb dX12_minutesOf_515 rfl (lv_at hl 13 rfl) ?_
                                        refine va_get (D := G) (ci := 11) (v := .ref (am 4)) (C := RX12) (T := TX12) (N := 52) hx hb hts in_X12 hown hK hP 0 (aM_0 _ _ _ _ _) rfl 4 (by decide) (hts _ q1269) (fun _ h9 => h9) rfl dX12_minutesOf_516 ?_
                                        refine lv_iload hx hb dX12_minutesOf_519 (lv_at hl 2 rfl) ?_
                                        refine li_zald (g := (τ 4)) hx hb hK hP 4 1 (aM_4 _ _ _ _ _) rfl (by omega) (by omega) (by decide) dX12_minutesOf_521 ?_
                                        refine li_if_eq (tgt := 543) hx hb ⟨by omega, by omega⟩ dX12_minutesOf_522 (by decide) (fun c522 => ?_) (fun c522 => ?_)
                                        · refine li_iconst hx hb dX12_minutesOf_543 ?_
                                          exact eRi hQ hx hb hr hlk dX12_minutesOf_544 (⟨-1, rfl, .inr ⟨fun q => by have q := (mnx5 hW (show 0 ≤ m1 / 1000 % 10 ∧ m1 / 1000 % 10 ≤ 7 by omega) hb42 hb51 c61 hS6 hb97 c197).mp q; have q5 := q.2.2.2.2; rw [lower_b (by omega)] at q5; omega, rfl⟩⟩)
                                        · refine lv_iload hx hb dX12_minutesOf_525 (lv_at hl 6 rfl) ?_
                                          refine li_iconst hx hb dX12_minutesOf_527 ?_
                                          refine li_div hx hb (by omega) (by omega) (by omega) (by omega) dX12_minutesOf_528 ?_
                                          refine lv_iload hx hb dX12_minutesOf_529 (lv_at hl 4 rfl) ?_
                                          refine li_if_eq (tgt := 538) hx hb ⟨by decide, by decide⟩ dX12_minutesOf_531 (by decide) (fun c531 => ?_) (fun c531 => ?_)
                                          · refine li_iconst hx hb dX12_minutesOf_538 ?_
                                            refine li_add hx hb dX12_minutesOf_539 ?_
                                            refine lv_goto (tgt := 544) hx hb dX12_minutesOf_540 (by decide) ?_
                                            exact eRi hQ hx hb hr hlk dX12_minutesOf_544 (⟨(fs (F 2) (m1 % 10) ((m1 / 10) % 10)) / 4 + 5, rfl, .inl ⟨(mnx5 hW (show 0 ≤ m1 / 1000 % 10 ∧ m1 / 1000 % 10 ≤ 7 by omega) hb42 hb51 c61 hS6 hb97 c197).mpr ⟨by omega, by omega, (hj479.resolve_right (fun z => by omega)).2.1, (hj479.resolve_right (fun z => by omega)).2.2, by rw [lower_b (by omega)]; omega⟩, by unfold mvV; rw [c197, mnV_5, lower_b (by omega), fs_1 (by omega)]; omega⟩⟩)
                                          · exact absurd c531 (by decide)
                                refine li_icmp_ne (tgt := 497) hx hb (ones_rg (by omega) (by omega)) ⟨by decide, by decide⟩ dX12_minutesOf_479 (by decide) (fun c479 => ?_) (fun c479 => ?_)
                                · refine li_iconst hx hb dX12_minutesOf_497 ?_
                                  exact J479 _ (by omega) ls (lv_sub hl [0, 1, 2, 3, 4, 5, 6, 7, 8, 9, 10, 11, 12, 13] rfl)
                                · have hs2 := set_lt hb97 (show 0 ≤ m1 / 1000 % 10 ∧ m1 / 1000 % 10 ≤ 7 by omega) h9a h9b c479
                                  have hB := mB (m1 / 1000 % 10 / 2) (by omega) hs2
                                  have hw4r := hw4 (m1 / 1000 % 10 / 2)
                                  refine lv_aload_n hx hb dX12_minutesOf_482 rfl (lv_at hl 12 rfl) ?_
                                  refine va_get (D := G) (ci := 11) (v := .ref (am 5)) (C := RX12) (T := TX12) (N := 52) hx hb hts in_X12 hown hK hP 0 (aM_0 _ _ _ _ _) rfl 6 (by decide) (hts _ q1271) (fun _ h9 => h9) rfl dX12_minutesOf_483 ?_
                                  refine lv_iload_n hx hb dX12_minutesOf_486 rfl (lv_at hl 10 rfl) ?_
                                  refine li_iconst hx hb dX12_minutesOf_487 ?_
                                  refine li_div hx hb (by omega) (by omega) (by omega) (by omega) dX12_minutesOf_488 ?_
                                  refine li_iald (g := (τ 6)) hx hb hK hP 5 0 (aM_5 _ _ _ _ _) rfl (by omega) (by omega) (by decide) dX12_minutesOf_489 ?_
                                  refine li_if_ne (tgt := 497) hx hb ⟨by omega, by omega⟩ dX12_minutesOf_490 (by decide) (fun c490 => ?_) (fun c490 => ?_)
                                  · refine li_iconst hx hb dX12_minutesOf_497 ?_
                                    exact J479 _ (by omega) ls (lv_sub hl [0, 1, 2, 3, 4, 5, 6, 7, 8, 9, 10, 11, 12, 13] rfl)
                                  · refine li_iconst hx hb dX12_minutesOf_493 ?_
                                    refine lv_goto (tgt := 498) hx hb dX12_minutesOf_494 (by decide) ?_
                                    exact J479 _ (by omega) ls (lv_sub hl [0, 1, 2, 3, 4, 5, 6, 7, 8, 9, 10, 11, 12, 13] rfl)
                              refine li_icmp_eq (tgt := 469) hx hb ⟨by omega, by omega⟩ ⟨by decide, by decide⟩ dX12_minutesOf_457 (by decide) (fun c457 => ?_) (fun c457 => ?_)
                              · refine li_iconst hx hb dX12_minutesOf_469 ?_
                                refine lv_goto (tgt := 474) hx hb dX12_minutesOf_470 (by decide) ?_
                                exact J457 _ (.inl (⟨c457, rfl⟩)) ls (lv_sub hl [0, 1, 2, 3, 4, 5, 6, 7, 8, 9, 10, 11, 12] rfl)
                              · refine lv_iload hx hb dX12_minutesOf_460 (lv_at hl 7 rfl) ?_
                                refine lv_iload hx hb dX12_minutesOf_462 (lv_at hl 6 rfl) ?_
                                refine li_sub hx hb dX12_minutesOf_464 ?_
                                refine li_iconst hx hb dX12_minutesOf_465 ?_
                                refine li_icmp_ne (tgt := 473) hx hb ⟨by omega, by omega⟩ ⟨by decide, by decide⟩ dX12_minutesOf_466 (by decide) (fun c466 => ?_) (fun c466 => ?_)
                                · refine li_iconst hx hb dX12_minutesOf_473 ?_
                                  exact J457 _ (.inr (.inl (⟨c457, c466, rfl⟩))) ls (lv_sub hl [0, 1, 2, 3, 4, 5, 6, 7, 8, 9, 10, 11, 12] rfl)
                                · refine li_iconst hx hb dX12_minutesOf_469 ?_
                                  refine lv_goto (tgt := 474) hx hb dX12_minutesOf_470 (by decide) ?_
                                  exact J457 _ (.inr (.inr (⟨c457, c466, rfl⟩))) ls (lv_sub hl [0, 1, 2, 3, 4, 5, 6, 7, 8, 9, 10, 11, 12] rfl)
                            · exact absurd c439 (by decide)
                          · refine lv_tableOut (tgt := 545) hx hb dX12_minutesOf_197 (by rw [ii_t ⟨by omega, by omega⟩]; omega) (by decide) ?_
                            have hk6 : m1 / 10000 = 6 := by omega
                            refine lv_iload hx hb dX12_minutesOf_545 (lv_at hl 1 rfl) ?_
                            refine li_if_eq (tgt := 575) hx hb ⟨by decide, by decide⟩ dX12_minutesOf_547 (by decide) (fun c547 => ?_) (fun c547 => ?_)
                            · refine li_iconst hx hb dX12_minutesOf_575 ?_
                              exact eRi hQ hx hb hr hlk dX12_minutesOf_576 (⟨-1, rfl, .inr ⟨fun q => by have q := (mnx6 hW (show 0 ≤ m1 / 1000 % 10 ∧ m1 / 1000 % 10 ≤ 7 by omega) hb42 hb51 c61 hS6 hb97 hk6).mp q; have q1 := q.1; omega, rfl⟩⟩)
                            · exact absurd c547 (by decide)
                        · exact absurd c167 (by decide)
                      · exfalso
                        omega
                    · refine lv_aload_n hx hb dX12_minutesOf_118 rfl (lv_at hl 6 rfl) ?_
                      refine lv_iload hx hb dX12_minutesOf_119 (lv_at hl 2 rfl) ?_
                      refine lv_iload hx hb dX12_minutesOf_121 (lv_at hl 1 rfl) ?_
                      refine kR (va_runV (As := [.int (ii ((m1 / 10) % 10)), .int (ii (m1 % 10))]) (rest := []) ⟨hx, hb, hml, hown, hts⟩ (m_farM l G am ty τ ρ cs ((m1 / 10) % 10) (m1 % 10) _ (show okF F from hF) (show Sim F τ from hSm) (show 0 ≤ ((m1 / 10) % 10) ∧ ((m1 / 10) % 10) ≤ (m1 % 10) ∧ (m1 % 10) ≤ F 8 0 from ⟨by omega, by omega, by omega⟩)) (cwV 2 hts (lw_V q1502 q1504 qs45 q87 q1505) rfl rfl rfl (by decide +kernel) ⟨Nat.le_of_ble_eq_true rfl, Nat.le_of_ble_eq_true rfl⟩) (pvR (r := (RX12, TX12, 52)) hK hP hD hX 0 (aM_0 _ _ _ _ _) rfl) rfl rfl hl.1 rfl (lv_room (Nat.le_of_ble_eq_true rfl)) dX12_minutesOf_123 ⟨Nat.le_of_ble_eq_true rfl, Nat.le_of_ble_eq_true rfl⟩) (fun v hv => ?_)
                      obtain ⟨rfl, hzb123⟩ := hv
                      have hzb123 : 0 ≤ fs (F 2) ((m1 / 10) % 10) (m1 % 10) ∧ fs (F 2) ((m1 / 10) % 10) (m1 % 10) ≤ 1000 := hzb123
                      refine lv_goto (tgt := 137) hx hb dX12_minutesOf_126 (by decide) ?_
                      refine lv_istore (lv' := [(8, .int (ii (fs (F 2) ((m1 / 10) % 10) (m1 % 10)))), (7, .int (ii (ones ((m1 / 1000) % 10)))), (6, .int (ii (m1 % 10))), (5, .int (ii ((m1 / 10) % 10))), (4, .int (ii ((m1 / 100) % 10))), (3, .int (ii ((m1 / 1000) % 10))), (2, .int (ii (m1 / 10000))), (0, .ref (am 0)), (1, .int (ii m1))]) hx hb dX12_minutesOf_137 hl (by decide) rfl (fun ls hl => ?_)
                      refine lv_iload hx hb dX12_minutesOf_139 (lv_at hl 1 rfl) ?_
                      refine lv_iload hx hb dX12_minutesOf_141 (lv_at hl 0 rfl) ?_
                      refine li_bipush hx hb dX12_minutesOf_143 (by decide) ?_
                      refine li_div hx hb (by omega) (by omega) (by omega) (by omega) dX12_minutesOf_145 ?_
                      refine li_iconst hx hb dX12_minutesOf_146 ?_
                      refine li_add hx hb dX12_minutesOf_147 ?_
                      refine li_mul hx hb dX12_minutesOf_148 ?_
                      refine lv_istore (lv' := [(9, .int (ii ((ones ((m1 / 1000) % 10)) * ((fs (F 2) ((m1 / 10) % 10) (m1 % 10)) / 10 + 1)))), (8, .int (ii (fs (F 2) ((m1 / 10) % 10) (m1 % 10)))), (7, .int (ii (ones ((m1 / 1000) % 10)))), (6, .int (ii (m1 % 10))), (5, .int (ii ((m1 / 10) % 10))), (4, .int (ii ((m1 / 100) % 10))), (3, .int (ii ((m1 / 1000) % 10))), (2, .int (ii (m1 / 10000))), (0, .ref (am 0)), (1, .int (ii m1))]) hx hb dX12_minutesOf_149 hl (by decide) rfl (fun ls hl => ?_)
                      refine lv_iload hx hb dX12_minutesOf_151 (lv_at hl 3 rfl) ?_
                      refine lv_iload hx hb dX12_minutesOf_153 (lv_at hl 4 rfl) ?_
                      refine li_icmp_le (tgt := 162) hx hb ⟨by omega, by omega⟩ ⟨by omega, by omega⟩ dX12_minutesOf_155 (by decide) (fun c155 => ?_) (fun c155 => ?_)
                      · exfalso
                        omega
                      · refine li_iconst hx hb dX12_minutesOf_158 ?_
                        refine lv_goto (tgt := 163) hx hb dX12_minutesOf_159 (by decide) ?_
                        refine lv_istore (lv' := [(10, .int (ii 1)), (9, .int (ii ((ones ((m1 / 1000) % 10)) * ((fs (F 2) ((m1 / 10) % 10) (m1 % 10)) / 10 + 1)))), (8, .int (ii (fs (F 2) ((m1 / 10) % 10) (m1 % 10)))), (7, .int (ii (ones ((m1 / 1000) % 10)))), (6, .int (ii (m1 % 10))), (5, .int (ii ((m1 / 10) % 10))), (4, .int (ii ((m1 / 100) % 10))), (3, .int (ii ((m1 / 1000) % 10))), (2, .int (ii (m1 / 10000))), (0, .ref (am 0)), (1, .int (ii m1))]) hx hb dX12_minutesOf_163 hl (by decide) rfl (fun ls hl => ?_)
                        refine lv_iload hx hb dX12_minutesOf_165 (lv_at hl 0 rfl) ?_
                        refine li_if_eq (tgt := 193) hx hb ⟨by decide, by decide⟩ dX12_minutesOf_167 (by decide) (fun c167 => ?_) (fun c167 => ?_)
                        · exact absurd c167 (by decide)
                        · have hA2 := (mA (m1 / 10 % 10) hb42.1 hb42.2).2.1
                          have hw1A := hw1 (m1 / 10 % 10)
                          refine lv_aload_n hx hb dX12_minutesOf_170 rfl (lv_at hl 9 rfl) ?_
                          refine va_get (D := G) (ci := 11) (v := .ref (am 2)) (C := RX12) (T := TX12) (N := 52) hx hb hts in_X12 hown hK hP 0 (aM_0 _ _ _ _ _) rfl 2 (by decide) (hts _ q1267) (fun _ h9 => h9) rfl dX12_minutesOf_171 ?_
                          refine lv_iload hx hb dX12_minutesOf_174 (lv_at hl 5 rfl) ?_
                          refine li_iald (g := (τ 2)) hx hb hK hP 2 0 (aM_2 _ _ _ _ _) rfl (by omega) (by omega) (by decide) dX12_minutesOf_176 ?_
                          refine li_iconst hx hb dX12_minutesOf_177 ?_
                          have hA2 := (mA (m1 / 10 % 10) hb42.1 hb42.2).2.1
                          have hw1A := hw1 (m1 / 10 % 10)
                          have J178 : ∀ (y178_0 : Int) (_ : (y178_0 = 1 ∧ (m1 / 10 % 10 < m1 % 10 ∧ F 1 (m1 / 10 % 10) = 1 ∧ ¬ hurtIn F (m1 / 1000 % 10))) ∨ (y178_0 = 0 ∧ ¬ (m1 / 10 % 10 < m1 % 10 ∧ F 1 (m1 / 10 % 10) = 1 ∧ ¬ hurtIn F (m1 / 1000 % 10)))) (ls : Array Slot), lv_has ls 16 [(10, .int (ii 1)), (9, .int (ii ((ones ((m1 / 1000) % 10)) * ((fs (F 2) ((m1 / 10) % 10) (m1 % 10)) / 10 + 1)))), (8, .int (ii (fs (F 2) ((m1 / 10) % 10) (m1 % 10)))), (7, .int (ii (ones ((m1 / 1000) % 10)))), (6, .int (ii (m1 % 10))), (5, .int (ii ((m1 / 10) % 10))), (4, .int (ii ((m1 / 100) % 10))), (3, .int (ii ((m1 / 1000) % 10))), (2, .int (ii (m1 / 10000))), (0, .ref (am 0)), (1, .int (ii m1))] → W p l e (rm4 2 0 0 46) s m args below meth c s.heap [] 0 0 Q (F0 m 194 ls [.int (ii y178_0)]) := by
                            intro y178_0 hj178 ls hl
                            refine lv_istore (lv' := [(11, .int (ii y178_0)), (10, .int (ii 1)), (9, .int (ii ((ones ((m1 / 1000) % 10)) * ((fs (F 2) ((m1 / 10) % 10) (m1 % 10)) / 10 + 1)))), (8, .int (ii (fs (F 2) ((m1 / 10) % 10) (m1 % 10)))), (7, .int (ii (ones ((m1 / 1000) % 10)))), (6, .int (ii (m1 % 10))), (5, .int (ii ((m1 / 10) % 10))), (4, .int (ii ((m1 / 100) % 10))), (3, .int (ii ((m1 / 1000) % 10))), (2, .int (ii (m1 / 10000))), (0, .ref (am 0)), (1, .int (ii m1))]) hx hb dX12_minutesOf_194 hl (by decide) rfl (fun ls hl => ?_)
                            refine lv_iload_n hx hb dX12_minutesOf_196 rfl (lv_at hl 9 rfl) ?_
                            rcases (show m1 / 10000 = 1 ∨ m1 / 10000 = 2 ∨ m1 / 10000 = 3 ∨ m1 / 10000 = 4 ∨ m1 / 10000 = 5 ∨ (m1 / 10000 < 1 ∨ 5 < m1 / 10000) by omega) with c197 | c197 | c197 | c197 | c197 | c197
                            · refine lv_tableIn (off := 35) (tgt := 232) hx hb dX12_minutesOf_197 (by rw [ii_t ⟨by omega, by omega⟩]; omega) (by rw [ii_t ⟨by omega, by omega⟩]; omega) (by rw [ii_t ⟨by omega, by omega⟩, c197]; rfl) (by decide) ?_
                              refine lv_iload hx hb dX12_minutesOf_232 (lv_at hl 0 rfl) ?_
                              refine li_if_eq (tgt := 269) hx hb ⟨by omega, by omega⟩ dX12_minutesOf_234 (by decide) (fun c234 => ?_) (fun c234 => ?_)
                              · refine li_iconst hx hb dX12_minutesOf_269 ?_
                                exact eRi hQ hx hb hr hlk dX12_minutesOf_270 (⟨-1, rfl, .inr ⟨fun q => by have q := (mnx1 hW (show 0 ≤ m1 / 1000 % 10 ∧ m1 / 1000 % 10 ≤ 7 by omega) hb42 hb51 c61 hS6 hb97 c197).mp q; exact (hj178.resolve_left (fun z => by omega)).2 ⟨q.1, q.2.1, q.2.2.1⟩, rfl⟩⟩)
                              · refine lv_aload_n hx hb dX12_minutesOf_237 rfl (lv_at hl 10 rfl) ?_
                                refine lv_iload hx hb dX12_minutesOf_238 (lv_at hl 7 rfl) ?_
                                refine lv_iload hx hb dX12_minutesOf_240 (lv_at hl 6 rfl) ?_
                                refine kR (va_runV (As := [.int (ii ((m1 / 100) % 10)), .int (ii ((m1 / 10) % 10))]) (rest := []) ⟨hx, hb, hml, hown, hts⟩ (m_isRopeOnM l G am ty τ ρ cs ((m1 / 100) % 10) ((m1 / 10) % 10) _ (show okF F from hF) (show Sim F τ from hSm) (show wfS (ρ 27) (ρ 28) from hSt) (show 0 ≤ ((m1 / 100) % 10) ∧ ((m1 / 100) % 10) ≤ 1 from ⟨by omega, by omega⟩) (show rg ((m1 / 10) % 10) from ⟨by omega, by omega⟩)) (cwV 2 hts (lw_V q1537 q1539 qs51 q87 q1540) rfl rfl rfl (by decide +kernel) ⟨Nat.le_of_ble_eq_true rfl, Nat.le_of_ble_eq_true rfl⟩) (pvR (r := (RX12, TX12, 52)) hK hP hD hX 0 (aM_0 _ _ _ _ _) rfl) rfl rfl hl.1 rfl (lv_room (Nat.le_of_ble_eq_true rfl)) dX12_minutesOf_242 ⟨Nat.le_of_ble_eq_true rfl, Nat.le_of_ble_eq_true rfl⟩) (fun v hv => ?_)
                                obtain ⟨z242, rfl, ⟨rfl, hb242⟩ | ⟨rfl, hb242⟩⟩ := hv
                                · have hb242 : okRope F (ρ 28) ((m1 / 100) % 10) ((m1 / 10) % 10) := hb242
                                  refine li_if_eq (tgt := 269) hx hb ⟨by decide, by decide⟩ dX12_minutesOf_245 (by decide) (fun c245 => ?_) (fun c245 => ?_)
                                  · exact absurd c245 (by decide)
                                  · have hD := mDr mD (r := m1 / 100 % 10) hb242 (by omega)
                                    have hw5r := hw5 (m1 / 100 % 10)
                                    refine li_iconst hx hb dX12_minutesOf_248 ?_
                                    refine lv_iload hx hb dX12_minutesOf_249 (lv_at hl 3 rfl) ?_
                                    refine li_mul hx hb dX12_minutesOf_251 ?_
                                    refine lv_aload_n hx hb dX12_minutesOf_252 rfl (lv_at hl 10 rfl) ?_
                                    refine va_get (D := G) (ci := 11) (v := .ref (am 6)) (C := RX12) (T := TX12) (N := 52) hx hb hts in_X12 hown hK hP 0 (aM_0 _ _ _ _ _) rfl 8 (by decide) (hts _ q1273) (fun _ h9 => h9) rfl dX12_minutesOf_253 ?_
                                    refine lv_iload hx hb dX12_minutesOf_256 (lv_at hl 7 rfl) ?_
                                    refine li_iald (g := (τ 8)) hx hb hK hP 6 0 (aM_6 _ _ _ _ _) rfl (by omega) (by omega) (by decide) dX12_minutesOf_258 ?_
                                    refine li_icmp_gt (tgt := 269) hx hb ⟨by omega, by omega⟩ ⟨by omega, by omega⟩ dX12_minutesOf_259 (by decide) (fun c259 => ?_) (fun c259 => ?_)
                                    · refine li_iconst hx hb dX12_minutesOf_269 ?_
                                      exact eRi hQ hx hb hr hlk dX12_minutesOf_270 (⟨-1, rfl, .inr ⟨fun q => by have q := (mnx1 hW (show 0 ≤ m1 / 1000 % 10 ∧ m1 / 1000 % 10 ≤ 7 by omega) hb42 hb51 c61 hS6 hb97 c197).mp q; have q5 := q.2.2.2.2; omega, rfl⟩⟩)
                                    · refine li_iconst hx hb dX12_minutesOf_262 ?_
                                      refine lv_iload hx hb dX12_minutesOf_263 (lv_at hl 2 rfl) ?_
                                      refine li_add hx hb dX12_minutesOf_265 ?_
                                      refine lv_goto (tgt := 270) hx hb dX12_minutesOf_266 (by decide) ?_
                                      exact eRi hQ hx hb hr hlk dX12_minutesOf_270 (⟨4 + ((ones ((m1 / 1000) % 10)) * ((fs (F 2) ((m1 / 10) % 10) (m1 % 10)) / 10 + 1)), rfl, .inl ⟨(mnx1 hW (show 0 ≤ m1 / 1000 % 10 ∧ m1 / 1000 % 10 ≤ 7 by omega) hb42 hb51 c61 hS6 hb97 c197).mpr ⟨(hj178.resolve_right (fun z => by omega)).2.1, (hj178.resolve_right (fun z => by omega)).2.2.1, (hj178.resolve_right (fun z => by omega)).2.2.2, hb242, by omega⟩, by unfold mvV; rw [c197, mnV_1]⟩⟩)
                                · have hb242 : ¬ okRope F (ρ 28) ((m1 / 100) % 10) ((m1 / 10) % 10) := hb242
                                  refine li_if_eq (tgt := 269) hx hb ⟨by decide, by decide⟩ dX12_minutesOf_245 (by decide) (fun c245 => ?_) (fun c245 => ?_)
                                  · refine li_iconst hx hb dX12_minutesOf_269 ?_
                                    exact eRi hQ hx hb hr hlk dX12_minutesOf_270 (⟨-1, rfl, .inr ⟨fun q => by have q := (mnx1 hW (show 0 ≤ m1 / 1000 % 10 ∧ m1 / 1000 % 10 ≤ 7 by omega) hb42 hb51 c61 hS6 hb97 c197).mp q; exact hb242 q.2.2.2.1, rfl⟩⟩)
                                  · exact absurd c245 (by decide)
                            · refine lv_tableIn (off := 74) (tgt := 271) hx hb dX12_minutesOf_197 (by rw [ii_t ⟨by omega, by omega⟩]; omega) (by rw [ii_t ⟨by omega, by omega⟩]; omega) (by rw [ii_t ⟨by omega, by omega⟩, c197]; rfl) (by decide) ?_
                              refine lv_iload hx hb dX12_minutesOf_271 (lv_at hl 0 rfl) ?_
                              refine li_if_eq (tgt := 306) hx hb ⟨by omega, by omega⟩ dX12_minutesOf_273 (by decide) (fun c273 => ?_) (fun c273 => ?_)
                              · refine li_iconst hx hb dX12_minutesOf_306 ?_
                                exact eRi hQ hx hb hr hlk dX12_minutesOf_307 (⟨-1, rfl, .inr ⟨fun q => by have q := (mnx2 hW (show 0 ≤ m1 / 1000 % 10 ∧ m1 / 1000 % 10 ≤ 7 by omega) hb42 hb51 c61 hS6 hb97 c197).mp q; exact (hj178.resolve_left (fun z => by omega)).2 ⟨q.1, q.2.1, q.2.2.1⟩, rfl⟩⟩)
                              · refine lv_aload_n hx hb dX12_minutesOf_276 rfl (lv_at hl 10 rfl) ?_
                                refine lv_iload hx hb dX12_minutesOf_277 (lv_at hl 7 rfl) ?_
                                refine lv_iload hx hb dX12_minutesOf_279 (lv_at hl 6 rfl) ?_
                                refine kR (va_runV (As := [.int (ii ((m1 / 100) % 10)), .int (ii ((m1 / 10) % 10))]) (rest := []) ⟨hx, hb, hml, hown, hts⟩ (m_isRopeOnM l G am ty τ ρ cs ((m1 / 100) % 10) ((m1 / 10) % 10) _ (show okF F from hF) (show Sim F τ from hSm) (show wfS (ρ 27) (ρ 28) from hSt) (show 0 ≤ ((m1 / 100) % 10) ∧ ((m1 / 100) % 10) ≤ 1 from ⟨by omega, by omega⟩) (show rg ((m1 / 10) % 10) from ⟨by omega, by omega⟩)) (cwV 2 hts (lw_V q1537 q1539 qs51 q87 q1540) rfl rfl rfl (by decide +kernel) ⟨Nat.le_of_ble_eq_true rfl, Nat.le_of_ble_eq_true rfl⟩) (pvR (r := (RX12, TX12, 52)) hK hP hD hX 0 (aM_0 _ _ _ _ _) rfl) rfl rfl hl.1 rfl (lv_room (Nat.le_of_ble_eq_true rfl)) dX12_minutesOf_281 ⟨Nat.le_of_ble_eq_true rfl, Nat.le_of_ble_eq_true rfl⟩) (fun v hv => ?_)
                                obtain ⟨z281, rfl, ⟨rfl, hb281⟩ | ⟨rfl, hb281⟩⟩ := hv
                                · have hb281 : okRope F (ρ 28) ((m1 / 100) % 10) ((m1 / 10) % 10) := hb281
                                  refine li_if_eq (tgt := 306) hx hb ⟨by decide, by decide⟩ dX12_minutesOf_284 (by decide) (fun c284 => ?_) (fun c284 => ?_)
                                  · exact absurd c284 (by decide)
                                  · have hD2 := mDr mD (r := m1 / 100 % 10) hb281 (by omega)
                                    have hw5r := hw5 (m1 / 100 % 10)
                                    refine lv_iload hx hb dX12_minutesOf_287 (lv_at hl 3 rfl) ?_
                                    refine lv_aload_n hx hb dX12_minutesOf_289 rfl (lv_at hl 10 rfl) ?_
                                    refine va_get (D := G) (ci := 11) (v := .ref (am 6)) (C := RX12) (T := TX12) (N := 52) hx hb hts in_X12 hown hK hP 0 (aM_0 _ _ _ _ _) rfl 8 (by decide) (hts _ q1273) (fun _ h9 => h9) rfl dX12_minutesOf_290 ?_
                                    refine lv_iload hx hb dX12_minutesOf_293 (lv_at hl 7 rfl) ?_
                                    refine li_iald (g := (τ 8)) hx hb hK hP 6 0 (aM_6 _ _ _ _ _) rfl (by omega) (by omega) (by decide) dX12_minutesOf_295 ?_
                                    refine li_icmp_gt (tgt := 306) hx hb (rgi hzb123.1 hzb123.2) ⟨by omega, by omega⟩ dX12_minutesOf_296 (by decide) (fun c296 => ?_) (fun c296 => ?_)
                                    · refine li_iconst hx hb dX12_minutesOf_306 ?_
                                      exact eRi hQ hx hb hr hlk dX12_minutesOf_307 (⟨-1, rfl, .inr ⟨fun q => by have q := (mnx2 hW (show 0 ≤ m1 / 1000 % 10 ∧ m1 / 1000 % 10 ≤ 7 by omega) hb42 hb51 c61 hS6 hb97 c197).mp q; have q5 := q.2.2.2.2; omega, rfl⟩⟩)
                                    · refine li_iconst hx hb dX12_minutesOf_299 ?_
                                      refine lv_iload hx hb dX12_minutesOf_300 (lv_at hl 2 rfl) ?_
                                      refine li_add hx hb dX12_minutesOf_302 ?_
                                      refine lv_goto (tgt := 307) hx hb dX12_minutesOf_303 (by decide) ?_
                                      exact eRi hQ hx hb hr hlk dX12_minutesOf_307 (⟨2 + ((ones ((m1 / 1000) % 10)) * ((fs (F 2) ((m1 / 10) % 10) (m1 % 10)) / 10 + 1)), rfl, .inl ⟨(mnx2 hW (show 0 ≤ m1 / 1000 % 10 ∧ m1 / 1000 % 10 ≤ 7 by omega) hb42 hb51 c61 hS6 hb97 c197).mpr ⟨(hj178.resolve_right (fun z => by omega)).2.1, (hj178.resolve_right (fun z => by omega)).2.2.1, (hj178.resolve_right (fun z => by omega)).2.2.2, hb281, by omega⟩, by unfold mvV; rw [c197, mnV_2]⟩⟩)
                                · have hb281 : ¬ okRope F (ρ 28) ((m1 / 100) % 10) ((m1 / 10) % 10) := hb281
                                  refine li_if_eq (tgt := 306) hx hb ⟨by decide, by decide⟩ dX12_minutesOf_284 (by decide) (fun c284 => ?_) (fun c284 => ?_)
                                  · refine li_iconst hx hb dX12_minutesOf_306 ?_
                                    exact eRi hQ hx hb hr hlk dX12_minutesOf_307 (⟨-1, rfl, .inr ⟨fun q => by have q := (mnx2 hW (show 0 ≤ m1 / 1000 % 10 ∧ m1 / 1000 % 10 ≤ 7 by omega) hb42 hb51 c61 hS6 hb97 c197).mp q; exact hb281 q.2.2.2.1, rfl⟩⟩)
                                  · exact absurd c284 (by decide)
                            · refine lv_tableIn (off := 111) (tgt := 308) hx hb dX12_minutesOf_197 (by rw [ii_t ⟨by omega, by omega⟩]; omega) (by rw [ii_t ⟨by omega, by omega⟩]; omega) (by rw [ii_t ⟨by omega, by omega⟩, c197]; rfl) (by decide) ?_
                              refine lv_iload hx hb dX12_minutesOf_308 (lv_at hl 7 rfl) ?_
                              have J310 : ∀ (y310_0 : Int) (_ : (y310_0 = 1 ∧ (m1 / 100 % 10 = 0 ∧ okRope F (ρ 28) 0 (m1 / 10 % 10) ∧ okRope F (ρ 28) 1 (m1 / 10 % 10) ∧ fs (F 2) ((m1 / 10) % 10) (m1 % 10) ≤ F 5 0 ∧ fs (F 2) ((m1 / 10) % 10) (m1 % 10) ≤ F 5 1)) ∨ (y310_0 = 0 ∧ ¬ (m1 / 100 % 10 = 0 ∧ okRope F (ρ 28) 0 (m1 / 10 % 10) ∧ okRope F (ρ 28) 1 (m1 / 10 % 10) ∧ fs (F 2) ((m1 / 10) % 10) (m1 % 10) ≤ F 5 0 ∧ fs (F 2) ((m1 / 10) % 10) (m1 % 10) ≤ F 5 1))) (ls : Array Slot), lv_has ls 16 [(11, .int (ii y178_0)), (10, .int (ii 1)), (9, .int (ii ((ones ((m1 / 1000) % 10)) * ((fs (F 2) ((m1 / 10) % 10) (m1 % 10)) / 10 + 1)))), (8, .int (ii (fs (F 2) ((m1 / 10) % 10) (m1 % 10)))), (7, .int (ii (ones ((m1 / 1000) % 10)))), (6, .int (ii (m1 % 10))), (5, .int (ii ((m1 / 10) % 10))), (4, .int (ii ((m1 / 100) % 10))), (3, .int (ii ((m1 / 1000) % 10))), (2, .int (ii (m1 / 10000))), (0, .ref (am 0)), (1, .int (ii m1))] → W p l e (rm4 2 0 0 46) s m args below meth c s.heap [] 0 0 Q (F0 m 360 ls [.int (ii y310_0)]) := by
                                intro y310_0 hj310 ls hl
                                refine lv_istore (lv' := [(12, .int (ii y310_0)), (11, .int (ii y178_0)), (10, .int (ii 1)), (9, .int (ii ((ones ((m1 / 1000) % 10)) * ((fs (F 2) ((m1 / 10) % 10) (m1 % 10)) / 10 + 1)))), (8, .int (ii (fs (F 2) ((m1 / 10) % 10) (m1 % 10)))), (7, .int (ii (ones ((m1 / 1000) % 10)))), (6, .int (ii (m1 % 10))), (5, .int (ii ((m1 / 10) % 10))), (4, .int (ii ((m1 / 100) % 10))), (3, .int (ii ((m1 / 1000) % 10))), (2, .int (ii (m1 / 10000))), (0, .ref (am 0)), (1, .int (ii m1))]) hx hb dX12_minutesOf_360 hl (by decide) rfl (fun ls hl => ?_)
                                refine lv_iload hx hb dX12_minutesOf_362 (lv_at hl 1 rfl) ?_
                                refine li_if_eq (tgt := 380) hx hb ⟨by omega, by omega⟩ dX12_minutesOf_364 (by decide) (fun c364 => ?_) (fun c364 => ?_)
                                · refine li_iconst hx hb dX12_minutesOf_380 ?_
                                  exact eRi hQ hx hb hr hlk dX12_minutesOf_381 (⟨-1, rfl, .inr ⟨fun q => by have q := (mnx3 hW (show 0 ≤ m1 / 1000 % 10 ∧ m1 / 1000 % 10 ≤ 7 by omega) hb42 hb51 c61 hS6 hb97 c197).mp q; exact (hj178.resolve_left (fun z => by omega)).2 ⟨q.1, q.2.1, q.2.2.1⟩, rfl⟩⟩)
                                · refine lv_iload hx hb dX12_minutesOf_367 (lv_at hl 0 rfl) ?_
                                  refine li_if_eq (tgt := 380) hx hb ⟨by omega, by omega⟩ dX12_minutesOf_369 (by decide) (fun c369 => ?_) (fun c369 => ?_)
                                  · refine li_iconst hx hb dX12_minutesOf_380 ?_
                                    exact eRi hQ hx hb hr hlk dX12_minutesOf_381 (⟨-1, rfl, .inr ⟨fun q => by have q := (mnx3 hW (show 0 ≤ m1 / 1000 % 10 ∧ m1 / 1000 % 10 ≤ 7 by omega) hb42 hb51 c61 hS6 hb97 c197).mp q; exact (hj310.resolve_left (fun z => by omega)).2 q.2.2.2, rfl⟩⟩)
                                  · refine li_bipush hx hb dX12_minutesOf_372 (by decide) ?_
                                    refine lv_iload hx hb dX12_minutesOf_374 (lv_at hl 3 rfl) ?_
                                    refine li_add hx hb dX12_minutesOf_376 ?_
                                    refine lv_goto (tgt := 381) hx hb dX12_minutesOf_377 (by decide) ?_
                                    exact eRi hQ hx hb hr hlk dX12_minutesOf_381 (⟨9 + ((ones ((m1 / 1000) % 10)) * ((fs (F 2) ((m1 / 10) % 10) (m1 % 10)) / 10 + 1)), rfl, .inl ⟨(mnx3 hW (show 0 ≤ m1 / 1000 % 10 ∧ m1 / 1000 % 10 ≤ 7 by omega) hb42 hb51 c61 hS6 hb97 c197).mpr ⟨(hj178.resolve_right (fun z => by omega)).2.1, (hj178.resolve_right (fun z => by omega)).2.2.1, (hj178.resolve_right (fun z => by omega)).2.2.2, (hj310.resolve_right (fun z => by omega)).2⟩, by unfold mvV; rw [c197, mnV_3]⟩⟩)
                              refine li_if_ne (tgt := 359) hx hb ⟨by omega, by omega⟩ dX12_minutesOf_310 (by decide) (fun c310 => ?_) (fun c310 => ?_)
                              · refine li_iconst hx hb dX12_minutesOf_359 ?_
                                exact J310 _ (.inr ⟨rfl, fun q => by have q1 := q.1; omega⟩) ls (lv_sub hl [0, 1, 2, 3, 4, 5, 6, 7, 8, 9, 10, 11] rfl)
                              · refine lv_aload_n hx hb dX12_minutesOf_313 rfl (lv_at hl 10 rfl) ?_
                                refine li_iconst hx hb dX12_minutesOf_314 ?_
                                refine lv_iload hx hb dX12_minutesOf_315 (lv_at hl 6 rfl) ?_
                                refine kR (va_runV (As := [.int (ii 0), .int (ii ((m1 / 10) % 10))]) (rest := []) ⟨hx, hb, hml, hown, hts⟩ (m_isRopeOnM l G am ty τ ρ cs 0 ((m1 / 10) % 10) _ (show okF F from hF) (show Sim F τ from hSm) (show wfS (ρ 27) (ρ 28) from hSt) (show 0 ≤ 0 ∧ 0 ≤ 1 from ⟨by omega, by omega⟩) (show rg ((m1 / 10) % 10) from ⟨by omega, by omega⟩)) (cwV 2 hts (lw_V q1537 q1539 qs51 q87 q1540) rfl rfl rfl (by decide +kernel) ⟨Nat.le_of_ble_eq_true rfl, Nat.le_of_ble_eq_true rfl⟩) (pvR (r := (RX12, TX12, 52)) hK hP hD hX 0 (aM_0 _ _ _ _ _) rfl) rfl rfl hl.1 rfl (lv_room (Nat.le_of_ble_eq_true rfl)) dX12_minutesOf_317 ⟨Nat.le_of_ble_eq_true rfl, Nat.le_of_ble_eq_true rfl⟩) (fun v hv => ?_)
                                obtain ⟨z317, rfl, ⟨rfl, hb317⟩ | ⟨rfl, hb317⟩⟩ := hv
                                · have hb317 : okRope F (ρ 28) 0 ((m1 / 10) % 10) := hb317
                                  refine li_if_eq (tgt := 359) hx hb ⟨by decide, by decide⟩ dX12_minutesOf_320 (by decide) (fun c320 => ?_) (fun c320 => ?_)
                                  · exact absurd c320 (by decide)
                                  · refine lv_aload_n hx hb dX12_minutesOf_323 rfl (lv_at hl 10 rfl) ?_
                                    refine li_iconst hx hb dX12_minutesOf_324 ?_
                                    refine lv_iload hx hb dX12_minutesOf_325 (lv_at hl 6 rfl) ?_
                                    refine kR (va_runV (As := [.int (ii 1), .int (ii ((m1 / 10) % 10))]) (rest := []) ⟨hx, hb, hml, hown, hts⟩ (m_isRopeOnM l G am ty τ ρ cs 1 ((m1 / 10) % 10) _ (show okF F from hF) (show Sim F τ from hSm) (show wfS (ρ 27) (ρ 28) from hSt) (show 0 ≤ 1 ∧ 1 ≤ 1 from ⟨by omega, by omega⟩) (show rg ((m1 / 10) % 10) from ⟨by omega, by omega⟩)) (cwV 2 hts (lw_V q1537 q1539 qs51 q87 q1540) rfl rfl rfl (by decide +kernel) ⟨Nat.le_of_ble_eq_true rfl, Nat.le_of_ble_eq_true rfl⟩) (pvR (r := (RX12, TX12, 52)) hK hP hD hX 0 (aM_0 _ _ _ _ _) rfl) rfl rfl hl.1 rfl (lv_room (Nat.le_of_ble_eq_true rfl)) dX12_minutesOf_327 ⟨Nat.le_of_ble_eq_true rfl, Nat.le_of_ble_eq_true rfl⟩) (fun v hv => ?_)
                                    obtain ⟨z327, rfl, ⟨rfl, hb327⟩ | ⟨rfl, hb327⟩⟩ := hv
                                    · have hb327 : okRope F (ρ 28) 1 ((m1 / 10) % 10) := hb327
                                      refine li_if_eq (tgt := 359) hx hb ⟨by decide, by decide⟩ dX12_minutesOf_330 (by decide) (fun c330 => ?_) (fun c330 => ?_)
                                      · exact absurd c330 (by decide)
                                      · have hD3 := mDr mD (r := 0) hb317 (by decide)
                                        have hw5r := hw5 0
                                        have hD4 := mDr mD (r := 1) hb327 (by decide)
                                        have hw5s := hw5 1
                                        refine lv_iload hx hb dX12_minutesOf_333 (lv_at hl 3 rfl) ?_
                                        refine lv_aload_n hx hb dX12_minutesOf_335 rfl (lv_at hl 10 rfl) ?_
                                        refine va_get (D := G) (ci := 11) (v := .ref (am 6)) (C := RX12) (T := TX12) (N := 52) hx hb hts in_X12 hown hK hP 0 (aM_0 _ _ _ _ _) rfl 8 (by decide) (hts _ q1273) (fun _ h9 => h9) rfl dX12_minutesOf_336 ?_
                                        refine li_iconst hx hb dX12_minutesOf_339 ?_
                                        refine li_iald (g := (τ 8)) hx hb hK hP 6 0 (aM_6 _ _ _ _ _) rfl (by decide) (by decide) (by decide) dX12_minutesOf_340 ?_
                                        refine li_icmp_gt (tgt := 359) hx hb (rgi hzb123.1 hzb123.2) ⟨by omega, by omega⟩ dX12_minutesOf_341 (by decide) (fun c341 => ?_) (fun c341 => ?_)
                                        · refine li_iconst hx hb dX12_minutesOf_359 ?_
                                          exact J310 _ (.inr ⟨rfl, fun q => by have q1 := q.2.2.2.1; have q2 := q.2.2.2.2; omega⟩) ls (lv_sub hl [0, 1, 2, 3, 4, 5, 6, 7, 8, 9, 10, 11] rfl)
                                        · refine lv_iload hx hb dX12_minutesOf_344 (lv_at hl 3 rfl) ?_
                                          refine lv_aload_n hx hb dX12_minutesOf_346 rfl (lv_at hl 10 rfl) ?_
                                          refine va_get (D := G) (ci := 11) (v := .ref (am 6)) (C := RX12) (T := TX12) (N := 52) hx hb hts in_X12 hown hK hP 0 (aM_0 _ _ _ _ _) rfl 8 (by decide) (hts _ q1273) (fun _ h9 => h9) rfl dX12_minutesOf_347 ?_
                                          refine li_iconst hx hb dX12_minutesOf_350 ?_
                                          refine li_iald (g := (τ 8)) hx hb hK hP 6 0 (aM_6 _ _ _ _ _) rfl (by decide) (by decide) (by decide) dX12_minutesOf_351 ?_
                                          refine li_icmp_gt (tgt := 359) hx hb (rgi hzb123.1 hzb123.2) ⟨by omega, by omega⟩ dX12_minutesOf_352 (by decide) (fun c352 => ?_) (fun c352 => ?_)
                                          · refine li_iconst hx hb dX12_minutesOf_359 ?_
                                            exact J310 _ (.inr ⟨rfl, fun q => by have q1 := q.2.2.2.1; have q2 := q.2.2.2.2; omega⟩) ls (lv_sub hl [0, 1, 2, 3, 4, 5, 6, 7, 8, 9, 10, 11] rfl)
                                          · refine li_iconst hx hb dX12_minutesOf_355 ?_
                                            refine lv_goto (tgt := 360) hx hb dX12_minutesOf_356 (by decide) ?_
                                            exact J310 _ (.inl ⟨rfl, by omega, hb317, hb327, by omega, by omega⟩) ls (lv_sub hl [0, 1, 2, 3, 4, 5, 6, 7, 8, 9, 10, 11] rfl)
                                    · have hb327 : ¬ okRope F (ρ 28) 1 ((m1 / 10) % 10) := hb327
                                      refine li_if_eq (tgt := 359) hx hb ⟨by decide, by decide⟩ dX12_minutesOf_330 (by decide) (fun c330 => ?_) (fun c330 => ?_)
                                      · refine li_iconst hx hb dX12_minutesOf_359 ?_
                                        exact J310 _ (.inr ⟨rfl, fun q => hb327 q.2.2.1⟩) ls (lv_sub hl [0, 1, 2, 3, 4, 5, 6, 7, 8, 9, 10, 11] rfl)
                                      · exact absurd c330 (by decide)
                                · have hb317 : ¬ okRope F (ρ 28) 0 ((m1 / 10) % 10) := hb317
                                  refine li_if_eq (tgt := 359) hx hb ⟨by decide, by decide⟩ dX12_minutesOf_320 (by decide) (fun c320 => ?_) (fun c320 => ?_)
                                  · refine li_iconst hx hb dX12_minutesOf_359 ?_
                                    exact J310 _ (.inr ⟨rfl, fun q => hb317 q.2.1⟩) ls (lv_sub hl [0, 1, 2, 3, 4, 5, 6, 7, 8, 9, 10, 11] rfl)
                                  · exact absurd c320 (by decide)
                            · refine lv_tableIn (off := 185) (tgt := 382) hx hb dX12_minutesOf_197 (by rw [ii_t ⟨by omega, by omega⟩]; omega) (by rw [ii_t ⟨by omega, by omega⟩]; omega) (by rw [ii_t ⟨by omega, by omega⟩, c197]; rfl) (by decide) ?_
                              refine lv_iload hx hb dX12_minutesOf_382 (lv_at hl 4 rfl) ?_
                              refine li_iconst hx hb dX12_minutesOf_384 ?_
                              refine li_icmp_ne (tgt := 435) hx hb (ones_rg (by omega) (by omega)) ⟨by decide, by decide⟩ dX12_minutesOf_385 (by decide) (fun c385 => ?_) (fun c385 => ?_)
                              · refine li_iconst hx hb dX12_minutesOf_435 ?_
                                exact eRi hQ hx hb hr hlk dX12_minutesOf_436 (⟨-1, rfl, .inr ⟨fun q => by have q := (mnx4 hW (show 0 ≤ m1 / 1000 % 10 ∧ m1 / 1000 % 10 ≤ 7 by omega) hb42 hb51 c61 hS6 hb97 c197).mp q; have q1 := q.1; have q2 := q.2.1; omega, rfl⟩⟩)
                              · refine lv_iload hx hb dX12_minutesOf_388 (lv_at hl 1 rfl) ?_
                                refine li_if_eq (tgt := 435) hx hb ⟨by decide, by decide⟩ dX12_minutesOf_390 (by decide) (fun c390 => ?_) (fun c390 => ?_)
                                · exact absurd c390 (by decide)
                                · refine lv_aload_n hx hb dX12_minutesOf_393 rfl (lv_at hl 10 rfl) ?_
                                  refine lv_iload hx hb dX12_minutesOf_394 (lv_at hl 6 rfl) ?_
                                  refine lv_iload_n hx hb dX12_minutesOf_396 rfl (lv_at hl 8 rfl) ?_
                                  refine kR (va_runV (As := [.int (ii ((m1 / 10) % 10)), .int (ii ((m1 / 1000) % 10))]) (rest := []) ⟨hx, hb, hml, hown, hts⟩ (m_isHelpedM l G am ty τ ρ cs ((m1 / 10) % 10) ((m1 / 1000) % 10) _ (show okF F from hF) (show Sim F τ from hSm) (show wfS (ρ 27) (ρ 28) from hSt) (show 0 ≤ ((m1 / 1000) % 10) ∧ ((m1 / 1000) % 10) ≤ 7 from ⟨by omega, by omega⟩) (show rg ((m1 / 10) % 10) from ⟨by omega, by omega⟩)) (cwV 2 hts (lw_V q1541 q1543 qs52 q87 q1544) rfl rfl rfl (by decide +kernel) ⟨Nat.le_of_ble_eq_true rfl, Nat.le_of_ble_eq_true rfl⟩) (pvR (r := (RX12, TX12, 52)) hK hP hD hX 0 (aM_0 _ _ _ _ _) rfl) rfl rfl hl.1 rfl (lv_room (Nat.le_of_ble_eq_true rfl)) dX12_minutesOf_397 ⟨Nat.le_of_ble_eq_true rfl, Nat.le_of_ble_eq_true rfl⟩) (fun v hv => ?_)
                                  obtain ⟨z397, rfl, ⟨rfl, hb397⟩ | ⟨rfl, hb397⟩⟩ := hv
                                  · have hb397 : okHelp F (ρ 27) ((m1 / 1000) % 10) ((m1 / 10) % 10) := hb397
                                    refine li_if_eq (tgt := 435) hx hb ⟨by decide, by decide⟩ dX12_minutesOf_400 (by decide) (fun c400 => ?_) (fun c400 => ?_)
                                    · exact absurd c400 (by decide)
                                    · refine lv_aload_n hx hb dX12_minutesOf_403 rfl (lv_at hl 10 rfl) ?_
                                      refine lv_iload hx hb dX12_minutesOf_404 (lv_at hl 7 rfl) ?_
                                      refine lv_iload hx hb dX12_minutesOf_406 (lv_at hl 6 rfl) ?_
                                      refine kR (va_runV (As := [.int (ii ((m1 / 100) % 10)), .int (ii ((m1 / 10) % 10))]) (rest := []) ⟨hx, hb, hml, hown, hts⟩ (m_isRopeOnM l G am ty τ ρ cs ((m1 / 100) % 10) ((m1 / 10) % 10) _ (show okF F from hF) (show Sim F τ from hSm) (show wfS (ρ 27) (ρ 28) from hSt) (show 0 ≤ ((m1 / 100) % 10) ∧ ((m1 / 100) % 10) ≤ 1 from ⟨by omega, by omega⟩) (show rg ((m1 / 10) % 10) from ⟨by omega, by omega⟩)) (cwV 2 hts (lw_V q1537 q1539 qs51 q87 q1540) rfl rfl rfl (by decide +kernel) ⟨Nat.le_of_ble_eq_true rfl, Nat.le_of_ble_eq_true rfl⟩) (pvR (r := (RX12, TX12, 52)) hK hP hD hX 0 (aM_0 _ _ _ _ _) rfl) rfl rfl hl.1 rfl (lv_room (Nat.le_of_ble_eq_true rfl)) dX12_minutesOf_408 ⟨Nat.le_of_ble_eq_true rfl, Nat.le_of_ble_eq_true rfl⟩) (fun v hv => ?_)
                                      obtain ⟨z408, rfl, ⟨rfl, hb408⟩ | ⟨rfl, hb408⟩⟩ := hv
                                      · have hb408 : okRope F (ρ 28) ((m1 / 100) % 10) ((m1 / 10) % 10) := hb408
                                        refine li_if_eq (tgt := 435) hx hb ⟨by decide, by decide⟩ dX12_minutesOf_411 (by decide) (fun c411 => ?_) (fun c411 => ?_)
                                        · exact absurd c411 (by decide)
                                        · have hD5 := mDr mD (r := m1 / 100 % 10) hb408 (by omega)
                                          have hw5r := hw5 (m1 / 100 % 10)
                                          refine lv_iload hx hb dX12_minutesOf_414 (lv_at hl 3 rfl) ?_
                                          refine lv_aload_n hx hb dX12_minutesOf_416 rfl (lv_at hl 10 rfl) ?_
                                          refine va_get (D := G) (ci := 11) (v := .ref (am 6)) (C := RX12) (T := TX12) (N := 52) hx hb hts in_X12 hown hK hP 0 (aM_0 _ _ _ _ _) rfl 8 (by decide) (hts _ q1273) (fun _ h9 => h9) rfl dX12_minutesOf_417 ?_
                                          refine lv_iload hx hb dX12_minutesOf_420 (lv_at hl 7 rfl) ?_
                                          refine li_iald (g := (τ 8)) hx hb hK hP 6 0 (aM_6 _ _ _ _ _) rfl (by omega) (by omega) (by decide) dX12_minutesOf_422 ?_
                                          refine li_icmp_gt (tgt := 435) hx hb (rgi hzb123.1 hzb123.2) ⟨by omega, by omega⟩ dX12_minutesOf_423 (by decide) (fun c423 => ?_) (fun c423 => ?_)
                                          · refine li_iconst hx hb dX12_minutesOf_435 ?_
                                            exact eRi hQ hx hb hr hlk dX12_minutesOf_436 (⟨-1, rfl, .inr ⟨fun q => by have q := (mnx4 hW (show 0 ≤ m1 / 1000 % 10 ∧ m1 / 1000 % 10 ≤ 7 by omega) hb42 hb51 c61 hS6 hb97 c197).mp q; have q5 := q.2.2.2.2; omega, rfl⟩⟩)
                                          · refine lv_iload hx hb dX12_minutesOf_426 (lv_at hl 3 rfl) ?_
                                            refine li_iconst hx hb dX12_minutesOf_428 ?_
                                            refine li_div hx hb (by omega) (by omega) (by omega) (by omega) dX12_minutesOf_429 ?_
                                            refine li_iconst hx hb dX12_minutesOf_430 ?_
                                            refine li_add hx hb dX12_minutesOf_431 ?_
                                            refine lv_goto (tgt := 436) hx hb dX12_minutesOf_432 (by decide) ?_
                                            exact eRi hQ hx hb hr hlk dX12_minutesOf_436 (⟨(fs (F 2) ((m1 / 10) % 10) (m1 % 10)) / 5 + 3, rfl, .inl ⟨(mnx4 hW (show 0 ≤ m1 / 1000 % 10 ∧ m1 / 1000 % 10 ≤ 7 by omega) hb42 hb51 c61 hS6 hb97 c197).mpr ⟨c385, by omega, hb397, hb408, by omega⟩, by unfold mvV; rw [c197, mnV_4]⟩⟩)
                                      · have hb408 : ¬ okRope F (ρ 28) ((m1 / 100) % 10) ((m1 / 10) % 10) := hb408
                                        refine li_if_eq (tgt := 435) hx hb ⟨by decide, by decide⟩ dX12_minutesOf_411 (by decide) (fun c411 => ?_) (fun c411 => ?_)
                                        · refine li_iconst hx hb dX12_minutesOf_435 ?_
                                          exact eRi hQ hx hb hr hlk dX12_minutesOf_436 (⟨-1, rfl, .inr ⟨fun q => by have q := (mnx4 hW (show 0 ≤ m1 / 1000 % 10 ∧ m1 / 1000 % 10 ≤ 7 by omega) hb42 hb51 c61 hS6 hb97 c197).mp q; exact hb408 q.2.2.2.1, rfl⟩⟩)
                                        · exact absurd c411 (by decide)
                                  · have hb397 : ¬ okHelp F (ρ 27) ((m1 / 1000) % 10) ((m1 / 10) % 10) := hb397
                                    refine li_if_eq (tgt := 435) hx hb ⟨by decide, by decide⟩ dX12_minutesOf_400 (by decide) (fun c400 => ?_) (fun c400 => ?_)
                                    · refine li_iconst hx hb dX12_minutesOf_435 ?_
                                      exact eRi hQ hx hb hr hlk dX12_minutesOf_436 (⟨-1, rfl, .inr ⟨fun q => by have q := (mnx4 hW (show 0 ≤ m1 / 1000 % 10 ∧ m1 / 1000 % 10 ≤ 7 by omega) hb42 hb51 c61 hS6 hb97 c197).mp q; exact hb397 q.2.2.1, rfl⟩⟩)
                                    · exact absurd c400 (by decide)
                            · refine lv_tableIn (off := 240) (tgt := 437) hx hb dX12_minutesOf_197 (by rw [ii_t ⟨by omega, by omega⟩]; omega) (by rw [ii_t ⟨by omega, by omega⟩]; omega) (by rw [ii_t ⟨by omega, by omega⟩, c197]; rfl) (by decide) ?_
                              refine lv_iload hx hb dX12_minutesOf_437 (lv_at hl 1 rfl) ?_
                              refine li_if_eq (tgt := 447) hx hb ⟨by decide, by decide⟩ dX12_minutesOf_439 (by decide) (fun c439 => ?_) (fun c439 => ?_)
                              · exact absurd c439 (by decide)
                              · refine lv_iload hx hb dX12_minutesOf_442 (lv_at hl 6 rfl) ?_
                                refine lv_goto (tgt := 449) hx hb dX12_minutesOf_444 (by decide) ?_
                                refine lv_istore (lv' := [(13, .int (ii ((m1 / 10) % 10))), (11, .int (ii y178_0)), (10, .int (ii 1)), (9, .int (ii ((ones ((m1 / 1000) % 10)) * ((fs (F 2) ((m1 / 10) % 10) (m1 % 10)) / 10 + 1)))), (8, .int (ii (fs (F 2) ((m1 / 10) % 10) (m1 % 10)))), (7, .int (ii (ones ((m1 / 1000) % 10)))), (6, .int (ii (m1 % 10))), (5, .int (ii ((m1 / 10) % 10))), (4, .int (ii ((m1 / 100) % 10))), (3, .int (ii ((m1 / 1000) % 10))), (2, .int (ii (m1 / 10000))), (0, .ref (am 0)), (1, .int (ii m1))]) hx hb dX12_minutesOf_449 hl (by decide) rfl (fun ls hl => ?_)
                                refine lv_iload hx hb dX12_minutesOf_451 (lv_at hl 6 rfl) ?_
                                refine lv_iload hx hb dX12_minutesOf_453 (lv_at hl 7 rfl) ?_
                                refine li_sub hx hb dX12_minutesOf_455 ?_
                                refine li_iconst hx hb dX12_minutesOf_456 ?_
                                have J457 : ∀ (y457_0 : Int) (_ : (((m1 % 10 - ((m1 / 10) % 10)) = 1) ∧ y457_0 = 1) ∨ ((¬ (m1 % 10 - ((m1 / 10) % 10)) = 1) ∧ (¬ ((m1 / 10) % 10 - (m1 % 10)) = 1) ∧ y457_0 = 0) ∨ ((¬ (m1 % 10 - ((m1 / 10) % 10)) = 1) ∧ (((m1 / 10) % 10 - (m1 % 10)) = 1) ∧ y457_0 = 1)) (ls : Array Slot), lv_has ls 16 [(13, .int (ii ((m1 / 10) % 10))), (11, .int (ii y178_0)), (10, .int (ii 1)), (9, .int (ii ((ones ((m1 / 1000) % 10)) * ((fs (F 2) ((m1 / 10) % 10) (m1 % 10)) / 10 + 1)))), (8, .int (ii (fs (F 2) ((m1 / 10) % 10) (m1 % 10)))), (7, .int (ii (ones ((m1 / 1000) % 10)))), (6, .int (ii (m1 % 10))), (5, .int (ii ((m1 / 10) % 10))), (4, .int (ii ((m1 / 100) % 10))), (3, .int (ii ((m1 / 1000) % 10))), (2, .int (ii (m1 / 10000))), (0, .ref (am 0)), (1, .int (ii m1))] → W p l e (rm4 2 0 0 46) s m args below meth c s.heap [] 0 0 Q (F0 m 474 ls [.int (ii y457_0)]) := by
                                  intro y457_0 hj457 ls hl
                                  refine lv_istore (lv' := [(14, .int (ii y457_0)), (13, .int (ii ((m1 / 10) % 10))), (11, .int (ii y178_0)), (10, .int (ii 1)), (9, .int (ii ((ones ((m1 / 1000) % 10)) * ((fs (F 2) ((m1 / 10) % 10) (m1 % 10)) / 10 + 1)))), (8, .int (ii (fs (F 2) ((m1 / 10) % 10) (m1 % 10)))), (7, .int (ii (ones ((m1 / 1000) % 10)))), (6, .int (ii (m1 % 10))), (5, .int (ii ((m1 / 10) % 10))), (4, .int (ii ((m1 / 100) % 10))), (3, .int (ii ((m1 / 1000) % 10))), (2, .int (ii (m1 / 10000))), (0, .ref (am 0)), (1, .int (ii m1))]) hx hb dX12_minutesOf_474 hl (by decide) rfl (fun ls hl => ?_)
                                  refine lv_iload hx hb dX12_minutesOf_476 (lv_at hl 6 rfl) ?_
                                  refine li_iconst hx hb dX12_minutesOf_478 ?_
                                  have J479 : ∀ (y479_0 : Int) (_ : (y479_0 = 1 ∧ (ones (m1 / 1000 % 10) = 1 ∧ F 4 (m1 / 1000 % 10 / 2) = 0)) ∨ (y479_0 = 0 ∧ ¬ (ones (m1 / 1000 % 10) = 1 ∧ F 4 (m1 / 1000 % 10 / 2) = 0))) (ls : Array Slot), lv_has ls 16 [(14, .int (ii y457_0)), (13, .int (ii ((m1 / 10) % 10))), (11, .int (ii y178_0)), (10, .int (ii 1)), (9, .int (ii ((ones ((m1 / 1000) % 10)) * ((fs (F 2) ((m1 / 10) % 10) (m1 % 10)) / 10 + 1)))), (8, .int (ii (fs (F 2) ((m1 / 10) % 10) (m1 % 10)))), (7, .int (ii (ones ((m1 / 1000) % 10)))), (6, .int (ii (m1 % 10))), (5, .int (ii ((m1 / 10) % 10))), (4, .int (ii ((m1 / 100) % 10))), (3, .int (ii ((m1 / 1000) % 10))), (2, .int (ii (m1 / 10000))), (0, .ref (am 0)), (1, .int (ii m1))] → W p l e (rm4 2 0 0 46) s m args below meth c s.heap [] 0 0 Q (F0 m 498 ls [.int (ii y479_0)]) := by
                                    intro y479_0 hj479 ls hl
                                    refine lv_istore (lv' := [(15, .int (ii y479_0)), (14, .int (ii y457_0)), (13, .int (ii ((m1 / 10) % 10))), (11, .int (ii y178_0)), (10, .int (ii 1)), (9, .int (ii ((ones ((m1 / 1000) % 10)) * ((fs (F 2) ((m1 / 10) % 10) (m1 % 10)) / 10 + 1)))), (8, .int (ii (fs (F 2) ((m1 / 10) % 10) (m1 % 10)))), (7, .int (ii (ones ((m1 / 1000) % 10)))), (6, .int (ii (m1 % 10))), (5, .int (ii ((m1 / 10) % 10))), (4, .int (ii ((m1 / 100) % 10))), (3, .int (ii ((m1 / 1000) % 10))), (2, .int (ii (m1 / 10000))), (0, .ref (am 0)), (1, .int (ii m1))]) hx hb dX12_minutesOf_498 hl (by decide) rfl (fun ls hl => ?_)
                                    refine lv_iload hx hb dX12_minutesOf_500 (lv_at hl 10 rfl) ?_
                                    refine li_if_ne (tgt := 543) hx hb ⟨by omega, by omega⟩ dX12_minutesOf_502 (by decide) (fun c502 => ?_) (fun c502 => ?_)
                                    · refine li_iconst hx hb dX12_minutesOf_543 ?_
                                      exact eRi hQ hx hb hr hlk dX12_minutesOf_544 (⟨-1, rfl, .inr ⟨fun q => by have q := (mnx5 hW (show 0 ≤ m1 / 1000 % 10 ∧ m1 / 1000 % 10 ≤ 7 by omega) hb42 hb51 c61 hS6 hb97 c197).mp q; have q1 := q.1; have q2 := q.2.1; omega, rfl⟩⟩)
                                    · refine lv_iload hx hb dX12_minutesOf_505 (lv_at hl 1 rfl) ?_
                                      refine li_if_eq (tgt := 543) hx hb ⟨by omega, by omega⟩ dX12_minutesOf_507 (by decide) (fun c507 => ?_) (fun c507 => ?_)
                                      · refine li_iconst hx hb dX12_minutesOf_543 ?_
                                        exact eRi hQ hx hb hr hlk dX12_minutesOf_544 (⟨-1, rfl, .inr ⟨fun q => by have q := (mnx5 hW (show 0 ≤ m1 / 1000 % 10 ∧ m1 / 1000 % 10 ≤ 7 by omega) hb42 hb51 c61 hS6 hb97 c197).mp q; have q1 := q.1; have q2 := q.2.1; omega, rfl⟩⟩)
                                      · refine lv_iload hx hb dX12_minutesOf_510 (lv_at hl 0 rfl) ?_
                                        refine li_if_eq (tgt := 543) hx hb ⟨by omega, by omega⟩ dX12_minutesOf_512 (by decide) (fun c512 => ?_) (fun c512 => ?_)
                                        · refine li_iconst hx hb dX12_minutesOf_543 ?_
                                          exact eRi hQ hx hb hr hlk dX12_minutesOf_544 (⟨-1, rfl, .inr ⟨fun q => by have q := (mnx5 hW (show 0 ≤ m1 / 1000 % 10 ∧ m1 / 1000 % 10 ≤ 7 by omega) hb42 hb51 c61 hS6 hb97 c197).mp q; exact (hj479.resolve_left (fun z => by omega)).2 ⟨q.2.2.1, q.2.2.2.1⟩, rfl⟩⟩)
                                        · have hA3 := (mA ((m1 / 10) % 10) (by omega) (by omega)).2.2.2
                                          have hw3r := hw3 ((m1 / 10) % 10)
                                          refine lv_aload_n hx hb dX12_minutesOf_515 rfl (lv_at hl 13 rfl) ?_
                                          refine va_get (D := G) (ci := 11) (v := .ref (am 4)) (C := RX12) (T := TX12) (N := 52) hx hb hts in_X12 hown hK hP 0 (aM_0 _ _ _ _ _) rfl 4 (by decide) (hts _ q1269) (fun _ h9 => h9) rfl dX12_minutesOf_516 ?_
                                          refine lv_iload hx hb dX12_minutesOf_519 (lv_at hl 2 rfl) ?_
                                          refine li_zald (g := (τ 4)) hx hb hK hP 4 1 (aM_4 _ _ _ _ _) rfl (by omega) (by omega) (by decide) dX12_minutesOf_521 ?_
                                          refine li_if_eq (tgt := 543) hx hb ⟨by omega, by omega⟩ dX12_minutesOf_522 (by decide) (fun c522 => ?_) (fun c522 => ?_)
                                          · refine li_iconst hx hb dX12_minutesOf_543 ?_
                                            exact eRi hQ hx hb hr hlk dX12_minutesOf_544 (⟨-1, rfl, .inr ⟨fun q => by have q := (mnx5 hW (show 0 ≤ m1 / 1000 % 10 ∧ m1 / 1000 % 10 ≤ 7 by omega) hb42 hb51 c61 hS6 hb97 c197).mp q; have q5 := q.2.2.2.2; rw [lower_a (by omega)] at q5; omega, rfl⟩⟩)
                                          · refine lv_iload hx hb dX12_minutesOf_525 (lv_at hl 6 rfl) ?_
                                            refine li_iconst hx hb dX12_minutesOf_527 ?_
                                            refine li_div hx hb (by omega) (by omega) (by omega) (by omega) dX12_minutesOf_528 ?_
                                            refine lv_iload hx hb dX12_minutesOf_529 (lv_at hl 4 rfl) ?_
                                            refine li_if_eq (tgt := 538) hx hb ⟨by decide, by decide⟩ dX12_minutesOf_531 (by decide) (fun c531 => ?_) (fun c531 => ?_)
                                            · exact absurd c531 (by decide)
                                            · refine li_iconst hx hb dX12_minutesOf_534 ?_
                                              refine lv_goto (tgt := 539) hx hb dX12_minutesOf_535 (by decide) ?_
                                              refine li_add hx hb dX12_minutesOf_539 ?_
                                              refine lv_goto (tgt := 544) hx hb dX12_minutesOf_540 (by decide) ?_
                                              exact eRi hQ hx hb hr hlk dX12_minutesOf_544 (⟨(fs (F 2) ((m1 / 10) % 10) (m1 % 10)) / 4 + 2, rfl, .inl ⟨(mnx5 hW (show 0 ≤ m1 / 1000 % 10 ∧ m1 / 1000 % 10 ≤ 7 by omega) hb42 hb51 c61 hS6 hb97 c197).mpr ⟨by omega, by omega, (hj479.resolve_right (fun z => by omega)).2.1, (hj479.resolve_right (fun z => by omega)).2.2, by rw [lower_a (by omega)]; omega⟩, by unfold mvV; rw [c197, mnV_5, lower_a (by omega), fs_1 (by omega)]; omega⟩⟩)
                                  refine li_icmp_ne (tgt := 497) hx hb (ones_rg (by omega) (by omega)) ⟨by decide, by decide⟩ dX12_minutesOf_479 (by decide) (fun c479 => ?_) (fun c479 => ?_)
                                  · refine li_iconst hx hb dX12_minutesOf_497 ?_
                                    exact J479 _ (by omega) ls (lv_sub hl [0, 1, 2, 3, 4, 5, 6, 7, 8, 9, 10, 11, 12, 13] rfl)
                                  · have hs2 := set_lt hb97 (show 0 ≤ m1 / 1000 % 10 ∧ m1 / 1000 % 10 ≤ 7 by omega) h9a h9b c479
                                    have hB := mB (m1 / 1000 % 10 / 2) (by omega) hs2
                                    have hw4r := hw4 (m1 / 1000 % 10 / 2)
                                    refine lv_aload_n hx hb dX12_minutesOf_482 rfl (lv_at hl 12 rfl) ?_
                                    refine va_get (D := G) (ci := 11) (v := .ref (am 5)) (C := RX12) (T := TX12) (N := 52) hx hb hts in_X12 hown hK hP 0 (aM_0 _ _ _ _ _) rfl 6 (by decide) (hts _ q1271) (fun _ h9 => h9) rfl dX12_minutesOf_483 ?_
                                    refine lv_iload_n hx hb dX12_minutesOf_486 rfl (lv_at hl 10 rfl) ?_
                                    refine li_iconst hx hb dX12_minutesOf_487 ?_
                                    refine li_div hx hb (by omega) (by omega) (by omega) (by omega) dX12_minutesOf_488 ?_
                                    refine li_iald (g := (τ 6)) hx hb hK hP 5 0 (aM_5 _ _ _ _ _) rfl (by omega) (by omega) (by decide) dX12_minutesOf_489 ?_
                                    refine li_if_ne (tgt := 497) hx hb ⟨by omega, by omega⟩ dX12_minutesOf_490 (by decide) (fun c490 => ?_) (fun c490 => ?_)
                                    · refine li_iconst hx hb dX12_minutesOf_497 ?_
                                      exact J479 _ (by omega) ls (lv_sub hl [0, 1, 2, 3, 4, 5, 6, 7, 8, 9, 10, 11, 12, 13] rfl)
                                    · refine li_iconst hx hb dX12_minutesOf_493 ?_
                                      refine lv_goto (tgt := 498) hx hb dX12_minutesOf_494 (by decide) ?_
                                      exact J479 _ (by omega) ls (lv_sub hl [0, 1, 2, 3, 4, 5, 6, 7, 8, 9, 10, 11, 12, 13] rfl)
                                refine li_icmp_eq (tgt := 469) hx hb ⟨by omega, by omega⟩ ⟨by decide, by decide⟩ dX12_minutesOf_457 (by decide) (fun c457 => ?_) (fun c457 => ?_)
                                · refine li_iconst hx hb dX12_minutesOf_469 ?_
                                  refine lv_goto (tgt := 474) hx hb dX12_minutesOf_470 (by decide) ?_
                                  exact J457 _ (.inl (⟨c457, rfl⟩)) ls (lv_sub hl [0, 1, 2, 3, 4, 5, 6, 7, 8, 9, 10, 11, 12] rfl)
                                · refine lv_iload hx hb dX12_minutesOf_460 (lv_at hl 7 rfl) ?_
                                  refine lv_iload hx hb dX12_minutesOf_462 (lv_at hl 6 rfl) ?_
                                  refine li_sub hx hb dX12_minutesOf_464 ?_
                                  refine li_iconst hx hb dX12_minutesOf_465 ?_
                                  refine li_icmp_ne (tgt := 473) hx hb ⟨by omega, by omega⟩ ⟨by decide, by decide⟩ dX12_minutesOf_466 (by decide) (fun c466 => ?_) (fun c466 => ?_)
                                  · refine li_iconst hx hb dX12_minutesOf_473 ?_
                                    exact J457 _ (.inr (.inl (⟨c457, c466, rfl⟩))) ls (lv_sub hl [0, 1, 2, 3, 4, 5, 6, 7, 8, 9, 10, 11, 12] rfl)
                                  · refine li_iconst hx hb dX12_minutesOf_469 ?_
                                    refine lv_goto (tgt := 474) hx hb dX12_minutesOf_470 (by decide) ?_
                                    exact J457 _ (.inr (.inr (⟨c457, c466, rfl⟩))) ls (lv_sub hl [0, 1, 2, 3, 4, 5, 6, 7, 8, 9, 10, 11, 12] rfl)
                            · refine lv_tableOut (tgt := 545) hx hb dX12_minutesOf_197 (by rw [ii_t ⟨by omega, by omega⟩]; omega) (by decide) ?_
                              have hk6 : m1 / 10000 = 6 := by omega
                              refine lv_iload hx hb dX12_minutesOf_545 (lv_at hl 1 rfl) ?_
                              refine li_if_eq (tgt := 575) hx hb ⟨by decide, by decide⟩ dX12_minutesOf_547 (by decide) (fun c547 => ?_) (fun c547 => ?_)
                              · exact absurd c547 (by decide)
                              · refine lv_aload_n hx hb dX12_minutesOf_550 rfl (lv_at hl 10 rfl) ?_
                                refine lv_iload hx hb dX12_minutesOf_551 (lv_at hl 6 rfl) ?_
                                refine li_iconst hx hb dX12_minutesOf_553 ?_
                                refine kR (va_runV (As := [.int (ii ((m1 / 10) % 10)), .int (ii 0)]) (rest := []) ⟨hx, hb, hml, hown, hts⟩ (m_isHelpedM l G am ty τ ρ cs ((m1 / 10) % 10) 0 _ (show okF F from hF) (show Sim F τ from hSm) (show wfS (ρ 27) (ρ 28) from hSt) (show 0 ≤ 0 ∧ 0 ≤ 7 from ⟨by omega, by omega⟩) (show rg ((m1 / 10) % 10) from ⟨by omega, by omega⟩)) (cwV 2 hts (lw_V q1541 q1543 qs52 q87 q1544) rfl rfl rfl (by decide +kernel) ⟨Nat.le_of_ble_eq_true rfl, Nat.le_of_ble_eq_true rfl⟩) (pvR (r := (RX12, TX12, 52)) hK hP hD hX 0 (aM_0 _ _ _ _ _) rfl) rfl rfl hl.1 rfl (lv_room (Nat.le_of_ble_eq_true rfl)) dX12_minutesOf_554 ⟨Nat.le_of_ble_eq_true rfl, Nat.le_of_ble_eq_true rfl⟩) (fun v hv => ?_)
                                obtain ⟨z554, rfl, ⟨rfl, hb554⟩ | ⟨rfl, hb554⟩⟩ := hv
                                · have hb554 : okHelp F (ρ 27) 0 ((m1 / 10) % 10) := hb554
                                  refine li_if_eq (tgt := 575) hx hb ⟨by decide, by decide⟩ dX12_minutesOf_557 (by decide) (fun c557 => ?_) (fun c557 => ?_)
                                  · exact absurd c557 (by decide)
                                  · refine lv_aload_n hx hb dX12_minutesOf_560 rfl (lv_at hl 10 rfl) ?_
                                    refine lv_iload hx hb dX12_minutesOf_561 (lv_at hl 7 rfl) ?_
                                    refine lv_iload hx hb dX12_minutesOf_563 (lv_at hl 6 rfl) ?_
                                    refine kR (va_runV (As := [.int (ii ((m1 / 100) % 10)), .int (ii ((m1 / 10) % 10))]) (rest := []) ⟨hx, hb, hml, hown, hts⟩ (m_isRopeOnM l G am ty τ ρ cs ((m1 / 100) % 10) ((m1 / 10) % 10) _ (show okF F from hF) (show Sim F τ from hSm) (show wfS (ρ 27) (ρ 28) from hSt) (show 0 ≤ ((m1 / 100) % 10) ∧ ((m1 / 100) % 10) ≤ 1 from ⟨by omega, by omega⟩) (show rg ((m1 / 10) % 10) from ⟨by omega, by omega⟩)) (cwV 2 hts (lw_V q1537 q1539 qs51 q87 q1540) rfl rfl rfl (by decide +kernel) ⟨Nat.le_of_ble_eq_true rfl, Nat.le_of_ble_eq_true rfl⟩) (pvR (r := (RX12, TX12, 52)) hK hP hD hX 0 (aM_0 _ _ _ _ _) rfl) rfl rfl hl.1 rfl (lv_room (Nat.le_of_ble_eq_true rfl)) dX12_minutesOf_565 ⟨Nat.le_of_ble_eq_true rfl, Nat.le_of_ble_eq_true rfl⟩) (fun v hv => ?_)
                                    obtain ⟨z565, rfl, ⟨rfl, hb565⟩ | ⟨rfl, hb565⟩⟩ := hv
                                    · have hb565 : okRope F (ρ 28) ((m1 / 100) % 10) ((m1 / 10) % 10) := hb565
                                      refine li_if_eq (tgt := 575) hx hb ⟨by decide, by decide⟩ dX12_minutesOf_568 (by decide) (fun c568 => ?_) (fun c568 => ?_)
                                      · exact absurd c568 (by decide)
                                      · refine li_iconst hx hb dX12_minutesOf_571 ?_
                                        refine lv_goto (tgt := 576) hx hb dX12_minutesOf_572 (by decide) ?_
                                        exact eRi hQ hx hb hr hlk dX12_minutesOf_576 (⟨1, rfl, .inl ⟨(mnx6 hW (show 0 ≤ m1 / 1000 % 10 ∧ m1 / 1000 % 10 ≤ 7 by omega) hb42 hb51 c61 hS6 hb97 hk6).mpr ⟨by omega, hb554, hb565⟩, by unfold mvV; rw [hk6, mnV_6]⟩⟩)
                                    · have hb565 : ¬ okRope F (ρ 28) ((m1 / 100) % 10) ((m1 / 10) % 10) := hb565
                                      refine li_if_eq (tgt := 575) hx hb ⟨by decide, by decide⟩ dX12_minutesOf_568 (by decide) (fun c568 => ?_) (fun c568 => ?_)
                                      · refine li_iconst hx hb dX12_minutesOf_575 ?_
                                        exact eRi hQ hx hb hr hlk dX12_minutesOf_576 (⟨-1, rfl, .inr ⟨fun q => by have q := (mnx6 hW (show 0 ≤ m1 / 1000 % 10 ∧ m1 / 1000 % 10 ≤ 7 by omega) hb42 hb51 c61 hS6 hb97 hk6).mp q; exact hb565 q.2.2, rfl⟩⟩)
                                      · exact absurd c568 (by decide)
                                · have hb554 : ¬ okHelp F (ρ 27) 0 ((m1 / 10) % 10) := hb554
                                  refine li_if_eq (tgt := 575) hx hb ⟨by decide, by decide⟩ dX12_minutesOf_557 (by decide) (fun c557 => ?_) (fun c557 => ?_)
                                  · refine li_iconst hx hb dX12_minutesOf_575 ?_
                                    exact eRi hQ hx hb hr hlk dX12_minutesOf_576 (⟨-1, rfl, .inr ⟨fun q => by have q := (mnx6 hW (show 0 ≤ m1 / 1000 % 10 ∧ m1 / 1000 % 10 ≤ 7 by omega) hb42 hb51 c61 hS6 hb97 hk6).mp q; exact hb554 q.2.1, rfl⟩⟩)
                                  · exact absurd c557 (by decide)
                          refine li_icmp_ne (tgt := 193) hx hb ⟨by omega, by omega⟩ ⟨by decide, by decide⟩ dX12_minutesOf_178 (by decide) (fun c178 => ?_) (fun c178 => ?_)
                          · refine li_iconst hx hb dX12_minutesOf_193 ?_
                            exact J178 _ (.inr ⟨rfl, fun q => by have q2 := q.2.1; omega⟩) ls (lv_sub hl [0, 1, 2, 3, 4, 5, 6, 7, 8, 9, 10] rfl)
                          · refine lv_aload_n hx hb dX12_minutesOf_181 rfl (lv_at hl 9 rfl) ?_
                            refine lv_iload_n hx hb dX12_minutesOf_182 rfl (lv_at hl 7 rfl) ?_
                            refine kR (va_runV (As := [.int (ii ((m1 / 1000) % 10))]) (rest := []) ⟨hx, hb, hml, hown, hts⟩ (m_hasHurtM l G am ty τ ρ cs ((m1 / 1000) % 10) _ (show okF F from hF) (show Sim F τ from hSm) (show 0 ≤ ((m1 / 1000) % 10) ∧ ((m1 / 1000) % 10) ≤ 7 from ⟨by omega, by omega⟩)) (cwV 1 hts (lw_V q1533 q1535 qs50 q87 q1536) rfl rfl rfl (by decide +kernel) ⟨Nat.le_of_ble_eq_true rfl, Nat.le_of_ble_eq_true rfl⟩) (pvR (r := (RX12, TX12, 52)) hK hP hD hX 0 (aM_0 _ _ _ _ _) rfl) rfl rfl hl.1 rfl (lv_room (Nat.le_of_ble_eq_true rfl)) dX12_minutesOf_183 ⟨Nat.le_of_ble_eq_true rfl, Nat.le_of_ble_eq_true rfl⟩) (fun v hv => ?_)
                            obtain ⟨z183, rfl, ⟨rfl, hb183⟩ | ⟨rfl, hb183⟩⟩ := hv
                            · have hb183 : hurtIn F ((m1 / 1000) % 10) := hb183
                              refine li_if_ne (tgt := 193) hx hb ⟨by decide, by decide⟩ dX12_minutesOf_186 (by decide) (fun c186 => ?_) (fun c186 => ?_)
                              · refine li_iconst hx hb dX12_minutesOf_193 ?_
                                exact J178 _ (.inr ⟨rfl, fun q => q.2.2 hb183⟩) ls (lv_sub hl [0, 1, 2, 3, 4, 5, 6, 7, 8, 9, 10] rfl)
                              · exact absurd c186 (by decide)
                            · have hb183 : ¬ hurtIn F ((m1 / 1000) % 10) := hb183
                              refine li_if_ne (tgt := 193) hx hb ⟨by decide, by decide⟩ dX12_minutesOf_186 (by decide) (fun c186 => ?_) (fun c186 => ?_)
                              · exact absurd c186 (by decide)
                              · refine li_iconst hx hb dX12_minutesOf_189 ?_
                                refine lv_goto (tgt := 194) hx hb dX12_minutesOf_190 (by decide) ?_
                                exact J178 _ (.inl ⟨rfl, by omega, by omega, hb183⟩) ls (lv_sub hl [0, 1, 2, 3, 4, 5, 6, 7, 8, 9, 10] rfl)
                  · exact absurd c100 (by decide)
                · have hb97 : ¬ mgOk F (ρ 27) ((m1 / 1000) % 10) ((m1 / 10) % 10) (m1 % 10) := hb97
                  refine li_if_ne (tgt := 105) hx hb ⟨by decide, by decide⟩ dX12_minutesOf_100 (by decide) (fun c100 => ?_) (fun c100 => ?_)
                  · exact absurd c100 (by decide)
                  · refine li_iconst hx hb dX12_minutesOf_103 ?_
                    exact eRi hQ hx hb hr hlk dX12_minutesOf_104 (⟨-1, rfl, .inr ⟨fun q => by have h9 := mnOk_pre (show 0 ≤ m1 / 1000 % 10 ∧ m1 / 1000 % 10 ≤ 7 by omega) h9a h9b h10a h10b q; exact hb97 h9.2.2.2.2.2.2, rfl⟩⟩)
              refine li_if_ne (tgt := 76) hx hb ⟨by omega, by omega⟩ dX12_minutesOf_69 (by decide) (fun c69 => ?_) (fun c69 => ?_)
              · refine li_iconst hx hb dX12_minutesOf_76 ?_
                refine lv_iload_n hx hb dX12_minutesOf_77 rfl (lv_at hl 4 rfl) ?_
                refine li_bipush hx hb dX12_minutesOf_78 (by decide) ?_
                refine li_icmp_ne (tgt := 87) hx hb ⟨by omega, by omega⟩ ⟨by decide, by decide⟩ dX12_minutesOf_80 (by decide) (fun c80 => ?_) (fun c80 => ?_)
                · refine li_iconst hx hb dX12_minutesOf_87 ?_
                  refine li_icmp_ne (tgt := 103) hx hb ⟨by decide, by decide⟩ ⟨by decide, by decide⟩ dX12_minutesOf_88 (by decide) (fun c88 => ?_) (fun c88 => ?_)
                  · exact absurd c88 (by decide)
                  · exact J69 (by omega) ls (lv_sub hl [0, 1, 2, 3, 4, 5, 6] rfl)
                · refine li_iconst hx hb dX12_minutesOf_83 ?_
                  refine lv_goto (tgt := 88) hx hb dX12_minutesOf_84 (by decide) ?_
                  refine li_icmp_ne (tgt := 103) hx hb ⟨by decide, by decide⟩ ⟨by decide, by decide⟩ dX12_minutesOf_88 (by decide) (fun c88 => ?_) (fun c88 => ?_)
                  · refine li_iconst hx hb dX12_minutesOf_103 ?_
                    exact eRi hQ hx hb hr hlk dX12_minutesOf_104 (⟨-1, rfl, .inr ⟨fun q => by have h9 := mnOk_pre (show 0 ≤ m1 / 1000 % 10 ∧ m1 / 1000 % 10 ≤ 7 by omega) h9a h9b h10a h10b q; have h8 := h9.2.2.2.2.2.1; omega, rfl⟩⟩)
                  · exact absurd c88 (by decide)
              · refine li_iconst hx hb dX12_minutesOf_72 ?_
                refine lv_goto (tgt := 77) hx hb dX12_minutesOf_73 (by decide) ?_
                refine lv_iload_n hx hb dX12_minutesOf_77 rfl (lv_at hl 4 rfl) ?_
                refine li_bipush hx hb dX12_minutesOf_78 (by decide) ?_
                refine li_icmp_ne (tgt := 87) hx hb ⟨by omega, by omega⟩ ⟨by decide, by decide⟩ dX12_minutesOf_80 (by decide) (fun c80 => ?_) (fun c80 => ?_)
                · refine li_iconst hx hb dX12_minutesOf_87 ?_
                  refine li_icmp_ne (tgt := 103) hx hb ⟨by decide, by decide⟩ ⟨by decide, by decide⟩ dX12_minutesOf_88 (by decide) (fun c88 => ?_) (fun c88 => ?_)
                  · refine li_iconst hx hb dX12_minutesOf_103 ?_
                    exact eRi hQ hx hb hr hlk dX12_minutesOf_104 (⟨-1, rfl, .inr ⟨fun q => by have h9 := mnOk_pre (show 0 ≤ m1 / 1000 % 10 ∧ m1 / 1000 % 10 ≤ 7 by omega) h9a h9b h10a h10b q; have h8 := h9.2.2.2.2.2.1; omega, rfl⟩⟩)
                  · exact absurd c88 (by decide)
                · refine li_iconst hx hb dX12_minutesOf_83 ?_
                  refine lv_goto (tgt := 88) hx hb dX12_minutesOf_84 (by decide) ?_
                  refine li_icmp_ne (tgt := 103) hx hb ⟨by decide, by decide⟩ ⟨by decide, by decide⟩ dX12_minutesOf_88 (by decide) (fun c88 => ?_) (fun c88 => ?_)
                  · exact absurd c88 (by decide)
                  · exact J69 (by omega) ls (lv_sub hl [0, 1, 2, 3, 4, 5, 6] rfl)
      · have hb51 : ¬ (0 ≤ (m1 % 10) ∧ (m1 % 10) < F 8 0) := hb51
        refine li_if_eq (tgt := 103) hx hb ⟨by decide, by decide⟩ dX12_minutesOf_54 (by decide) (fun c54 => ?_) (fun c54 => ?_)
        · refine li_iconst hx hb dX12_minutesOf_103 ?_
          exact eRi hQ hx hb hr hlk dX12_minutesOf_104 (⟨-1, rfl, .inr ⟨fun q => by have h9 := mnOk_pre (show 0 ≤ m1 / 1000 % 10 ∧ m1 / 1000 % 10 ≤ 7 by omega) h9a h9b h10a h10b q; have h8 := h9.2.2.2.2.2.1; omega, rfl⟩⟩)
        · exact absurd c54 (by decide)
  · have hb42 : ¬ (0 ≤ ((m1 / 10) % 10) ∧ ((m1 / 10) % 10) < F 8 0) := hb42
    refine li_if_eq (tgt := 103) hx hb ⟨by decide, by decide⟩ dX12_minutesOf_45 (by decide) (fun c45 => ?_) (fun c45 => ?_)
    · refine li_iconst hx hb dX12_minutesOf_103 ?_
      exact eRi hQ hx hb hr hlk dX12_minutesOf_104 (⟨-1, rfl, .inr ⟨fun q => by have h9 := mnOk_pre (show 0 ≤ m1 / 1000 % 10 ∧ m1 / 1000 % 10 ≤ 7 by omega) h9a h9b h10a h10b q; have h8 := h9.2.2.2.2.2.1; omega, rfl⟩⟩)
    · exact absurd c45 (by decide)
