/-! may, move, moves, count (written by gen/s2.py) -/
set_option maxRecDepth 100000
theorem alike_t {w q w1 q1 w2 q2 : Int → Int} (h : alike w q w1 q1) (h' : alike w1 q1 w2 q2) : alike w q w2 q2 := ⟨h.1.trans h'.1, h.2.1.trans h'.2.1, h.2.2.1.trans h'.2.2.1, h.2.2.2.1.trans h'.2.2.2.1, h.2.2.2.2.trans h'.2.2.2.2⟩
theorem mvOk_al {F : mem} {w q w' q' : Int → Int} {m : Int} (h : alike w q w' q') (hT : isT m) : mvOk F w q m ↔ mvOk F w' q' m := by
  have := isT_m hT
  exact mnOk_al h (by omega)
theorem Sim_keep {F τ : mem} (h : Sim F τ) : Sim (up (up (up F 6 (F 6)) 7 (F 7)) 13 (sc (F 13 0))) (up (up (up τ 9 (τ 9)) 10 (τ 10)) 13 (sc (τ 13 0))) := by
  obtain ⟨a, b, c, d, e, f, g, i, j⟩ := h
  exact ⟨a, b, c, d, e, f, g, i, j⟩
theorem Sim_move {F τ : mem} {st to k r n n' : Int} {w q gp gr : Int → Int} (h : Sim F τ) (h9 : F 9 0 ≤ 3) (h10 : F 10 0 ≤ 2) (hal : alike w q (F 6) (F 7)) (hp : ∀ i, 0 ≤ i → i < F 9 0 → gp i = mvw st to w i) (hr : ∀ i, 0 ≤ i → i < F 10 0 → gr i = mvq k r to q i) (hn : n' = n) :
    Sim (up (up (up F 6 (mvw st to (F 6))) 7 (mvq k r to (F 7))) 13 (sc n)) (up (up (up τ 9 gp) 10 gr) 13 (sc n')) := by
  obtain ⟨a, b, c, d, e, f, g, i, j⟩ := h
  refine ⟨a, b, c, d, e, hn, g, fun x x0 x1 => ⟨(i x x0 x1).1, ?_⟩, fun x x0 x1 => ⟨(j x x0 x1).1, ?_⟩⟩
  · show gp x = mvw st to (F 6) x
    rw [hp x x0 x1]
    refine mvw_at ?_
    have x1 : x < F 9 0 := x1
    rcases (show x = 0 ∨ x = 1 ∨ x = 2 by omega) with rfl | rfl | rfl
    · exact hal.1
    · exact hal.2.1
    · exact hal.2.2.1
  · show gr x = mvq k r to (F 7) x
    rw [hr x x0 x1]
    refine mvq_at ?_
    have x1 : x < F 10 0 := x1
    rcases (show x = 0 ∨ x = 1 by omega) with rfl | rfl
    · exact hal.2.2.2.1
    · exact hal.2.2.2.2
theorem LI_st {F : mem} {w q V g0 g1 : Int → Int} {n p : Int} (hS : wfS w q) (h : LI (lgl F w q) V g0 g1 n p) : LI (leg F (cdv w q)) V g0 g1 n p := by
  rw [lgl_al (alike_cdv hS)] at h
  exact h
theorem fs_end {g : Int → Int} {a b k : Int} (h : k = b ∨ (k = a ∧ b ≤ a)) (_ : a ≤ k) : fs g a k = fs g a b := by
  rcases h with rfl | ⟨rfl, h⟩
  · rfl
  · unfold fs
    rw [show (k - k).toNat = 0 by omega, show (b - k).toNat = 0 by omega]
theorem cn_list {P L : Int → Prop} {g : Int → Int} {n pos : Int} (h : LL P g n pos) (hL : ∀ x, L x → P x) (m : Int) (h0 : 0 ≤ m) (hm : m ≤ pos) : cn L m = cn (fun j => L (g j)) (cn P m) := by
  obtain ⟨k, rfl⟩ := Int.eq_ofNat_of_zero_le h0
  induction k with
  | zero => rfl
  | succ k ih =>
    have ih := ih (by omega) (by omega)
    rw [show ((k + 1 : Nat) : Int) = (k : Int) + 1 by omega]
    by_cases hp : P k
    · have hg := (h.2 k (by omega) (by omega) hp).1
      rw [cn_s (P := P) (by omega) hp]
      have hc := cn_nn (P := P) (m := k) (by omega)
      by_cases hl : L k
      · rw [cn_s (by omega) hl, cn_s (P := fun j => L (g j)) hc (by rw [hg]; exact hl), ih]
      · rw [cn_n (by omega) hl, cn_n (P := fun j => L (g j)) hc (by rw [hg]; exact hl), ih]
    · rw [cn_n (P := P) (by omega) hp, cn_n (by omega) (fun q => hp (hL _ q)), ih]
theorem cn_all {P L : Int → Prop} {g : Int → Int} {n : Int} (h : LL P g n 70000) (hL : ∀ x, L x → P x) : cn L 70000 = cn (fun j => L (g j)) n := by
  have := cn_list h hL 70000 (by decide) (by decide)
  rw [← h.1] at this
  exact this
set_option maxHeartbeats 4000000 in
theorem m_mayM (l : Launch) (G : va_G) (am : Nat → Nat) (ty : Nat → ClassId) (τ ρ : mem) (cs : va_W) (m1 : Int) (F : mem) (hF : okF F) (hSm : Sim F τ) (hSt : wfS (ρ 27) (ρ 28)) (hZ : zerF F) (hmv : rg m1) : cM l yX12_may (ws_ yX12_may cX12_may 3 (some .int)) (rm4 3 0 0 81) G ty (wM am ty τ ρ ++ cs) [.ref (am 0), .int (ii m1)] 0 0 (fun r W' => ∃ (z : Int) (wT : Int → Int) (qT : Int → Int), r = some (.int (ii z)) ∧ W' = wM am ty τ (up (up (up ρ 14 (sc (0))) 27 wT) 28 qT) ++ cs ∧ (wfS wT qT) ∧ (z < 0 ∨ alike wT qT (F 6) (F 7)) ∧ ((isT m1 ∧ ((mvOk F (F 6) (F 7) m1 ∧ z = mvV F m1) ∨ (¬ mvOk F (F 6) (F 7) m1 ∧ z = -3))) ∨ (¬ isT m1 ∧ z = -1)) ∧ (-3 ≤ z ∧ z ≤ 312)) := by
  refine cM.of (by decide) (Nat.le_of_ble_eq_true rfl) ?_
  intro p e s m args below meth c A Q H locs hQ hx hb hr hml hown hlk hname hts hK hP hD hS hA hX ls hl
  have hl : lv_has ls 3 [(0, .ref (am 0)), (1, .int (ii m1))] := hl
  obtain ⟨hW, hWS, hlg⟩ := id hF
  obtain ⟨hw0, hw1, hw2, hw3, hw4, hw5, h8a, h8b, h9a, h9b, h10a, h10b⟩ := id hW
  obtain ⟨mL, mP, mR, mC, mK, mM, mA, mB, mD⟩ := id hSm
  have hst := (cdv_dig hWS.1 hWS.2).1
  refine lv_aload_n hx hb dX12_may_0 rfl (lv_at hl 0 rfl) ?_
  refine li_iconst hx hb dX12_may_1 ?_
  refine va_put (D := G) (ci := 11) (v := .int (ii 0)) (ty := .int) (C := RX12) (T := TX12) (N := 52) hx hb hts in_X12 tyX12 tyX12_ok nmX12 hown hK hP hD hS 0 (aM_0 _ _ _ _ _) rfl 14 (by decide) (hts _ q1279) (fun _ h9 => h9) rfl (tyX12_ok 14 (by decide)) rfl rfl (Nat.le_of_ble_eq_true rfl) dX12_may_2 (fun H locs hP hD hS => ?_)
  have hP : va_P G gcl (wM am ty τ (up ρ 14 (sc (0))) ++ cs) H := hP
  have hD : va_D A (wM am ty τ (up ρ 14 (sc (0))) ++ cs) := hD
  refine lv_iload_n hx hb dX12_may_5 rfl (lv_at hl 1 rfl) ?_
  refine kR (va_runS (As := [.int (ii m1)]) (rest := []) ⟨hx, hb, hml, hown, hts⟩ (m_isMoveM l G ty (wM am ty τ (up ρ 14 (sc (0))) ++ cs) m1 hmv) (va_cwS 1 hts (lw_S q1510 q1511 q87 q1512) rfl rfl rfl (by decide +kernel) ⟨Nat.le_of_ble_eq_true rfl, Nat.le_of_ble_eq_true rfl⟩) (psR hK hP hD hX) rfl rfl hl.1 rfl (lv_room (Nat.le_of_ble_eq_true rfl)) dX12_may_6 ⟨Nat.le_of_ble_eq_true rfl, Nat.le_of_ble_eq_true rfl⟩) (fun v hv => ?_)
  obtain ⟨z6, rfl, ⟨rfl, h6⟩ | ⟨rfl, h6⟩⟩ := hv
  · refine li_if_ne (tgt := 14) hx hb ⟨by decide, by decide⟩ dX12_may_9 (by decide) (fun c9 => ?_) (fun c9 => ?_)
    · refine lv_aload_n hx hb dX12_may_14 rfl (lv_at hl 0 rfl) ?_
      refine lv_aload_n hx hb dX12_may_15 rfl (lv_at hl 0 rfl) ?_
      refine kR (va_runV (As := []) (rest := [.ref (am 0)]) ⟨hx, hb, hml, hown, hts⟩ (m_stateNowM l G am ty τ (up ρ 14 (sc (0))) cs _ (show okF F from hF) (show Sim F τ from hSm) (show zerF F from hZ)) (cwV 0 hts (lw_V q1514 q1516 qs46 q87 q1517) rfl rfl rfl (by decide +kernel) ⟨Nat.le_of_ble_eq_true rfl, Nat.le_of_ble_eq_true rfl⟩) (pvR (r := (RX12, TX12, 52)) hK hP hD hX 0 (aM_0 _ _ _ _ _) rfl) rfl rfl hl.1 rfl (lv_room (Nat.le_of_ble_eq_true rfl)) dX12_may_16 ⟨Nat.le_of_ble_eq_true rfl, Nat.le_of_ble_eq_true rfl⟩) (fun v hv => ?_)
      have hv := hv
      subst hv
      refine kM (va_runV (As := [.int (ii (cdv (F 6) (F 7)))]) (rest := []) ⟨hx, hb, hml, hown, hts⟩ ((m_openM l G am ty τ (up ρ 14 (sc (0))) cs (cdv (F 6) (F 7)) (show inSt (cdv (F 6) (F 7)) from hst)) H.size) (cwV 1 hts (lw_V q1518 q1520 qs47 q87 q1521) rfl rfl rfl (by decide +kernel) ⟨Nat.le_of_ble_eq_true rfl, Nat.le_of_ble_eq_true rfl⟩) (pvM (r := (RX12, TX12, 52)) hK hP hD hX 0 (aM_0 _ _ _ _ _) rfl) rfl rfl hl.1 rfl (lv_room (Nat.le_of_ble_eq_true rfl)) dX12_may_19 ⟨Nat.le_of_ble_eq_true rfl, Nat.le_of_ble_eq_true rfl⟩) hD hS hA (fun v ws1 H locs hv hP hD hS => ?_)
      obtain ⟨rfl, rfl, hal19⟩ := hv
      have hP : va_P G gcl (wM am ty τ (up (up (up ρ 14 (sc (0))) 27 (dcw (cdv (F 6) (F 7)) (ρ 27))) 28 (dcq (cdv (F 6) (F 7)) (ρ 28))) ++ cs) H := hP
      have hD : va_D A (wM am ty τ (up (up (up ρ 14 (sc (0))) 27 (dcw (cdv (F 6) (F 7)) (ρ 27))) 28 (dcq (cdv (F 6) (F 7)) (ρ 28))) ++ cs) := hD
      have hal19 : alike (dcw (cdv (F 6) (F 7)) (ρ 27)) (dcq (cdv (F 6) (F 7)) (ρ 28)) (stW (cdv (F 6) (F 7))) (stQ (cdv (F 6) (F 7))) := hal19
      have hS2 : wfS (dcw (cdv (F 6) (F 7)) (ρ 27)) (dcq (cdv (F 6) (F 7)) (ρ 28)) := ⟨dcw_b hSt.1, dcq_b hSt.2⟩
      have hal2 : alike (dcw (cdv (F 6) (F 7)) (ρ 27)) (dcq (cdv (F 6) (F 7)) (ρ 28)) (F 6) (F 7) := alike_t hal19 (alike_cdv hWS).symm
      refine lv_aload_n hx hb dX12_may_22 rfl (lv_at hl 0 rfl) ?_
      refine lv_iload_n hx hb dX12_may_23 rfl (lv_at hl 1 rfl) ?_
      refine kR (va_runV (As := [.int (ii m1)]) (rest := []) ⟨hx, hb, hml, hown, hts⟩ (m_minutesOfM l G am ty τ (up (up (up ρ 14 (sc (0))) 27 (dcw (cdv (F 6) (F 7)) (ρ 27))) 28 (dcq (cdv (F 6) (F 7)) (ρ 28))) cs m1 _ (show okF F from hF) (show Sim F τ from hSm) (show wfS (dcw (cdv (F 6) (F 7)) (ρ 27)) (dcq (cdv (F 6) (F 7)) (ρ 28)) from hS2) (show isT m1 from h6)) (cwV 1 hts (lw_V q1522 q1524 qs48 q87 q1525) rfl rfl rfl (by decide +kernel) ⟨Nat.le_of_ble_eq_true rfl, Nat.le_of_ble_eq_true rfl⟩) (pvR (r := (RX12, TX12, 52)) hK hP hD hX 0 (aM_0 _ _ _ _ _) rfl) rfl rfl hl.1 rfl (lv_room (Nat.le_of_ble_eq_true rfl)) dX12_may_24 ⟨Nat.le_of_ble_eq_true rfl, Nat.le_of_ble_eq_true rfl⟩) (fun v hv => ?_)
      obtain ⟨z24, rfl, hz24⟩ := hv
      have hz24 : (mvOk F (dcw (cdv (F 6) (F 7)) (ρ 27)) (dcq (cdv (F 6) (F 7)) (ρ 28)) m1 ∧ z24 = mvV F m1) ∨ (¬ mvOk F (dcw (cdv (F 6) (F 7)) (ρ 27)) (dcq (cdv (F 6) (F 7)) (ρ 28)) m1 ∧ z24 = -1) := hz24
      have hzr24 : -1 ≤ z24 ∧ z24 ≤ 312 := mz_b hW h6 hz24
      refine lv_istore_n (lv' := [(2, .int (ii z24)), (0, .ref (am 0)), (1, .int (ii m1))]) hx hb dX12_may_27 rfl hl (by decide) rfl (fun ls hl => ?_)
      have hvb := mvV_b hW h6
      have hok := mvOk_al (F := F) hal2 h6
      refine lv_iload_n hx hb dX12_may_28 rfl (lv_at hl 0 rfl) ?_
      refine li_if_ge (tgt := 37) hx hb (rg4 ⟨Int.le_trans (by decide) hzr24.1, Int.le_trans hzr24.2 (by decide)⟩) dX12_may_29 (by decide) (fun c29 => ?_) (fun c29 => ?_)
      · refine lv_iload_n hx hb dX12_may_37 rfl (lv_at hl 0 rfl) ?_
        exact eMi hQ hx hb hr hlk hP hD hS (Nat.le_of_ble_eq_true rfl) (Nat.le_of_ble_eq_true rfl) dX12_may_38 (⟨z24, (dcw (cdv (F 6) (F 7)) (ρ 27)), (dcq (cdv (F 6) (F 7)) (ρ 28)), rfl, rfl, hS2, .inr hal2, .inl ⟨h6, .inl ⟨hok.mp (hz24.resolve_right (fun r => by omega)).1, (hz24.resolve_right (fun r => by omega)).2⟩⟩, ⟨by omega, by omega⟩⟩)
      · refine li_bipush hx hb dX12_may_32 (by decide) ?_
        refine lv_goto (tgt := 38) hx hb dX12_may_34 (by decide) ?_
        exact eMi hQ hx hb hr hlk hP hD hS (Nat.le_of_ble_eq_true rfl) (Nat.le_of_ble_eq_true rfl) dX12_may_38 (⟨-3, (dcw (cdv (F 6) (F 7)) (ρ 27)), (dcq (cdv (F 6) (F 7)) (ρ 28)), rfl, rfl, hS2, .inl (by decide), .inl ⟨h6, .inr ⟨fun q => (hz24.resolve_left (fun r => by omega)).1 (hok.mpr q), rfl⟩⟩, ⟨by omega, by omega⟩⟩)
    · exact absurd c9 (by decide)
  · refine li_if_ne (tgt := 14) hx hb ⟨by decide, by decide⟩ dX12_may_9 (by decide) (fun c9 => ?_) (fun c9 => ?_)
    · exact absurd c9 (by decide)
    · refine li_iconst hx hb dX12_may_12 ?_
      exact eMi hQ hx hb hr hlk hP hD hS (Nat.le_of_ble_eq_true rfl) (Nat.le_of_ble_eq_true rfl) dX12_may_13 (⟨-1, (ρ 27), (ρ 28), rfl, rfl, hSt, .inl (by decide), .inr ⟨h6, rfl⟩, ⟨by omega, by omega⟩⟩)
set_option maxHeartbeats 4000000 in
theorem m_move (l : Launch) (G : va_G) (ad : Nat → Nat) (ty : Nat → ClassId) (hv : Nat → Option Nat) (σ ς κ : mem) (cs : va_W) (m1 : Int)  (hF : okF σ) (hmv : rg m1) (hmi : 0 ≤ (σ 13 0) ∧ (σ 13 0) ≤ 1000000) : cM l yX1_move (ws_ yX1_move cX1_move 3 (some .int)) (rm4 4 0 0 85) G ty (wD ad ty hv σ ς κ ++ cs) [.ref (ad 0), .int (ii m1)] 0 0 (fun r W' => ∃ (z : Int) (g : Int → Int) (h : Int → Int) (n : Int) (κ' : mem), r = some (.int (ii z)) ∧ W' = wD ad ty hv (up (up (up σ 6 g) 7 h) 13 (sc (n))) ς κ' ++ cs ∧ ((isT m1 ∧ mvOk σ (σ 6) (σ 7) m1 ∧ g = mvw (m1 / 1000 % 10) (m1 % 10) (σ 6) ∧ h = mvq (m1 / 10000) (m1 / 100 % 10) (m1 % 10) (σ 7) ∧ n = (σ 13 0) + mvV σ m1 ∧ z = n) ∨ (isT m1 ∧ ¬ mvOk σ (σ 6) (σ 7) m1 ∧ g = (σ 6) ∧ h = (σ 7) ∧ n = (σ 13 0) ∧ z = -3) ∨ (¬ isT m1 ∧ g = (σ 6) ∧ h = (σ 7) ∧ n = (σ 13 0) ∧ z = -1))) := by
  refine cM.of (by decide) (Nat.le_of_ble_eq_true rfl) ?_
  intro p e s m args below meth c A Q H locs hQ hx hb hr hml hown hlk hname hts hK hP hD hS hA hX ls hl
  have hl : lv_has ls 3 [(0, .ref (ad 0)), (1, .int (ii m1))] := hl
  obtain ⟨hW, hWS, hlg⟩ := id hF
  obtain ⟨hw0, hw1, hw2, hw3, hw4, hw5, h8a, h8b, h9a, h9b, h10a, h10b⟩ := id hW
  obtain ⟨hs0, hs1⟩ := id hWS
  refine lv_iload_n hx hb dX1_move_0 rfl (lv_at hl 1 rfl) ?_
  refine kR (va_runS (As := [.int (ii m1)]) (rest := []) ⟨hx, hb, hml, hown, hts⟩ (m_isTold l G ty (wD ad ty hv σ ς κ ++ cs) m1 hmv) (va_cwS 1 hts (lw_S q374 q375 q76 q376) rfl rfl rfl (by decide +kernel) ⟨Nat.le_of_ble_eq_true rfl, Nat.le_of_ble_eq_true rfl⟩) (psR hK hP hD hX) rfl rfl hl.1 rfl (lv_room (Nat.le_of_ble_eq_true rfl)) dX1_move_1 ⟨Nat.le_of_ble_eq_true rfl, Nat.le_of_ble_eq_true rfl⟩) (fun v hv => ?_)
  obtain ⟨z1, rfl, ⟨rfl, h1⟩ | ⟨rfl, h1⟩⟩ := hv
  · refine li_if_ne (tgt := 9) hx hb ⟨by decide, by decide⟩ dX1_move_4 (by decide) (fun c4 => ?_) (fun c4 => ?_)
    · refine lv_aload_n hx hb dX1_move_9 rfl (lv_at hl 0 rfl) ?_
      refine lv_iload_n hx hb dX1_move_10 rfl (lv_at hl 1 rfl) ?_
      refine kM (va_runV (As := [.int (ii m1)]) (rest := []) ⟨hx, hb, hml, hown, hts⟩ ((m_toldD l G ad ty hv σ ς κ cs m1 h1) H.size) (cwV 1 hts (lw_V q378 q380 qs17 q76 q381) rfl rfl rfl (by decide +kernel) ⟨Nat.le_of_ble_eq_true rfl, Nat.le_of_ble_eq_true rfl⟩) (pvM (r := (RX1, TX1, 21)) hK hP hD hX 0 (aD_0 _ _ _ _ _ _ _) rfl) rfl rfl hl.1 rfl (lv_room (Nat.le_of_ble_eq_true rfl)) dX1_move_11 ⟨Nat.le_of_ble_eq_true rfl, Nat.le_of_ble_eq_true rfl⟩) hD hS hA (fun v ws1 H locs hv hP hD hS => ?_)
      obtain ⟨κ11, k11, rfl, rfl, hk11, he11, hc11, hM11⟩ := hv
      refine lv_aload_n hx hb dX1_move_14 rfl (lv_at hl 0 rfl) ?_
      refine va_get (D := G) (ci := 0) (v := .ref (ad 1)) (C := RX1) (T := TX1) (N := 21) hx hb hts in_X1 hown hK hP 0 (aD_0 _ _ _ _ _ _ _) rfl 0 (by decide) (hts _ q977) (fun _ h9 => h9) rfl dX1_move_15 ?_
      refine lv_aload_n hx hb dX1_move_18 rfl (lv_at hl 0 rfl) ?_
      refine va_get (D := G) (ci := 0) (v := .ref (ad 1)) (C := RX1) (T := TX1) (N := 21) hx hb hts in_X1 hown hK hP 0 (aD_0 _ _ _ _ _ _ _) rfl 0 (by decide) (hts _ q977) (fun _ h9 => h9) rfl dX1_move_19 ?_
      refine va_get (D := G) (ci := 1) (v := .ref (ad 8)) (C := RX2) (T := TX2) (N := 13) hx hb hts in_X2 hown hK hP 1 (aD_1 _ _ _ _ _ _ _) rfl 12 (by decide) (hts _ q810) (fun _ h9 => h9) rfl dX1_move_22 ?_
      refine v_minutes (fi := fun k => 1 + k) (fd := fun k => ad (1 + k)) (F := σ) (si := fun k => 8 + k) (sd := fun k => ad (8 + k)) (w := (σ 6)) (q := (σ 7)) (mi := 32 + k11) (md := ad (32 + k11)) (st := m1 / 1000 % 10) (rp := m1 / 100 % 10) (fr := m1 / 10 % 10) (to := m1 % 10) hx hb hml hown hts hK hP hD hX k11 hk11 ⟨rfl, rfl, rfl, rfl, rfl, rfl, rfl⟩ hW ⟨rfl, rfl, rfl⟩ hWS hM11 (isT_m h1) hlg (Nat.le_of_ble_eq_true rfl) (Nat.le_of_ble_eq_true rfl) hl.1 (Nat.le_of_ble_eq_true rfl) ⟨Nat.le_of_ble_eq_true rfl, Nat.le_of_ble_eq_true rfl⟩ dX1_move_25 (fun z25 hz25 => ?_)
      rw [he11] at hz25
      change (mvOk σ (σ 6) (σ 7) m1 ∧ _ = mvV σ m1) ∨ (¬ mvOk σ (σ 6) (σ 7) m1 ∧ _) at hz25
      have hvb := mvV_b hW h1
      refine lv_istore_n (lv' := [(2, .int (ii z25)), (0, .ref (ad 0)), (1, .int (ii m1))]) hx hb dX1_move_28 rfl hl (by decide) rfl (fun ls hl => ?_)
      refine lv_iload_n hx hb dX1_move_29 rfl (lv_at hl 0 rfl) ?_
      refine li_bipush hx hb dX1_move_30 (by decide) ?_
      refine li_icmp_ne (tgt := 38) hx hb ⟨by omega, by omega⟩ ⟨by decide, by decide⟩ dX1_move_32 (by decide) (fun c32 => ?_) (fun c32 => ?_)
      · refine lv_aload_n hx hb dX1_move_38 rfl (lv_at hl 1 rfl) ?_
        refine lv_iload_n hx hb dX1_move_39 rfl (lv_at hl 2 rfl) ?_
        refine kM (va_runV (As := [.int (ii m1)]) (rest := []) ⟨hx, hb, hml, hown, hts⟩ ((m_toldD l G ad ty hv σ ς κ11 cs m1 h1) H.size) (cwV 1 hts (lw_V q378 q380 qs17 q76 q381) rfl rfl rfl (by decide +kernel) ⟨Nat.le_of_ble_eq_true rfl, Nat.le_of_ble_eq_true rfl⟩) (pvM (r := (RX1, TX1, 21)) hK hP hD hX 0 (aD_0 _ _ _ _ _ _ _) rfl) rfl rfl hl.1 rfl (lv_room (Nat.le_of_ble_eq_true rfl)) dX1_move_40 ⟨Nat.le_of_ble_eq_true rfl, Nat.le_of_ble_eq_true rfl⟩) hD hS hA (fun v ws1 H locs hv hP hD hS => ?_)
        obtain ⟨κ40, k40, rfl, rfl, hk40, he40, hc40, hM40⟩ := hv
        refine lv_aload_n hx hb dX1_move_43 rfl (lv_at hl 1 rfl) ?_
        refine va_get (D := G) (ci := 0) (v := .ref (ad 1)) (C := RX1) (T := TX1) (N := 21) hx hb hts in_X1 hown hK hP 0 (aD_0 _ _ _ _ _ _ _) rfl 0 (by decide) (hts _ q977) (fun _ h9 => h9) rfl dX1_move_44 ?_
        refine va_get (D := G) (ci := 1) (v := .ref (ad 8)) (C := RX2) (T := TX2) (N := 13) hx hb hts in_X2 hown hK hP 1 (aD_1 _ _ _ _ _ _ _) rfl 12 (by decide) (hts _ q810) (fun _ h9 => h9) rfl dX1_move_47 ?_
        refine v_does (ws := wD ad ty hv σ ς κ40 ++ cs) (si := fun k => 8 + k) (sd := fun k => ad (8 + k)) (w := (σ 6)) (q := (σ 7)) (mi := 32 + k40) (md := ad (32 + k40)) (st := m1 / 1000 % 10) (rp := m1 / 100 % 10) (fr := m1 / 10 % 10) (to := m1 % 10) hx hb hml hown hts hK hP hD hX k40 hk40 hS hA ⟨rfl, rfl, rfl⟩ hM40 (isT_m h1) (by decide) (by decide) (by omega) (by decide) (by decide) (by omega) (Nat.le_of_ble_eq_true rfl) (Nat.le_of_ble_eq_true rfl) hl.1 (Nat.le_of_ble_eq_true rfl) ⟨Nat.le_of_ble_eq_true rfl, Nat.le_of_ble_eq_true rfl⟩ dX1_move_50 (fun H locs hP hD hS => ?_)
        rw [he40] at hP hD
        have hP : va_P G gcl (wD ad ty hv (up (up σ 6 (mvw (m1 / 1000 % 10) (m1 % 10) (σ 6))) 7 (mvq (m1 / 10000) (m1 / 100 % 10) (m1 % 10) (σ 7))) ς κ40 ++ cs) H := hP
        have hD : va_D A (wD ad ty hv (up (up σ 6 (mvw (m1 / 1000 % 10) (m1 % 10) (σ 6))) 7 (mvq (m1 / 10000) (m1 / 100 % 10) (m1 % 10) (σ 7))) ς κ40 ++ cs) := hD
        refine lv_aload_n hx hb dX1_move_53 rfl (lv_at hl 1 rfl) ?_
        refine va_get (D := G) (ci := 0) (v := .ref (ad 1)) (C := RX1) (T := TX1) (N := 21) hx hb hts in_X1 hown hK hP 0 (aD_0 _ _ _ _ _ _ _) rfl 0 (by decide) (hts _ q977) (fun _ h9 => h9) rfl dX1_move_54 ?_
        refine lv_dup hx hb dX1_move_57 rfl ?_
        refine va_get (D := G) (ci := 1) (v := .int (ii (σ 13 0))) (C := RX2) (T := TX2) (N := 13) hx hb hts in_X2 hown hK hP 1 (aD_1 _ _ _ _ _ _ _) rfl 11 (by decide) (hts _ q808) (fun _ h9 => h9) rfl dX1_move_58 ?_
        refine lv_iload_n hx hb dX1_move_61 rfl (lv_at hl 0 rfl) ?_
        refine li_add hx hb dX1_move_62 ?_
        refine va_put (D := G) (ci := 1) (v := .int (ii (σ 13 0 + z25))) (ty := .int) (C := RX2) (T := TX2) (N := 13) hx hb hts in_X2 tyX2 tyX2_ok nmX2 hown hK hP hD hS 1 (aD_1 _ _ _ _ _ _ _) rfl 11 (by decide) (hts _ q808) (fun _ h9 => h9) rfl (tyX2_ok 11 (by decide)) rfl rfl (Nat.le_of_ble_eq_true rfl) dX1_move_63 (fun H locs hP hD hS => ?_)
        have hP : va_P G gcl (wD ad ty hv (up (up (up σ 6 (mvw (m1 / 1000 % 10) (m1 % 10) (σ 6))) 7 (mvq (m1 / 10000) (m1 / 100 % 10) (m1 % 10) (σ 7))) 13 (sc (σ 13 0 + z25))) ς κ40 ++ cs) H := hP
        have hD : va_D A (wD ad ty hv (up (up (up σ 6 (mvw (m1 / 1000 % 10) (m1 % 10) (σ 6))) 7 (mvq (m1 / 10000) (m1 / 100 % 10) (m1 % 10) (σ 7))) 13 (sc (σ 13 0 + z25))) ς κ40 ++ cs) := hD
        refine lv_aload_n hx hb dX1_move_66 rfl (lv_at hl 1 rfl) ?_
        refine va_get (D := G) (ci := 0) (v := .ref (ad 1)) (C := RX1) (T := TX1) (N := 21) hx hb hts in_X1 hown hK hP 0 (aD_0 _ _ _ _ _ _ _) rfl 0 (by decide) (hts _ q977) (fun _ h9 => h9) rfl dX1_move_67 ?_
        refine va_get (D := G) (ci := 1) (v := .int (ii (σ 13 0 + z25))) (C := RX2) (T := TX2) (N := 13) hx hb hts in_X2 hown hK hP 1 (aD_1 _ _ _ _ _ _ _) rfl 11 (by decide) (hts _ q808) (fun _ h9 => h9) rfl dX1_move_70 ?_
        exact eMi hQ hx hb hr hlk hP hD hS (Nat.le_of_ble_eq_true rfl) (Nat.le_of_ble_eq_true rfl) dX1_move_73 (⟨σ 13 0 + z25, (mvw (m1 / 1000 % 10) (m1 % 10) (σ 6)), (mvq (m1 / 10000) (m1 / 100 % 10) (m1 % 10) (σ 7)), σ 13 0 + z25, κ40, rfl, rfl, .inl ⟨h1, (hz25.resolve_right (fun r => by omega)).1, rfl, rfl, by rw [(hz25.resolve_right (fun r => by omega)).2], rfl⟩⟩)
      · refine li_bipush hx hb dX1_move_35 (by decide) ?_
        exact eMi hQ hx hb hr hlk hP hD hS (Nat.le_of_ble_eq_true rfl) (Nat.le_of_ble_eq_true rfl) dX1_move_37 (⟨-3, (σ 6), (σ 7), σ 13 0, κ11, rfl, rfl, .inr (.inl ⟨h1, (hz25.resolve_left (fun r => by omega)).1, rfl, rfl, rfl, rfl⟩)⟩)
    · exact absurd c4 (by decide)
  · refine li_if_ne (tgt := 9) hx hb ⟨by decide, by decide⟩ dX1_move_4 (by decide) (fun c4 => ?_) (fun c4 => ?_)
    · exact absurd c4 (by decide)
    · refine li_iconst hx hb dX1_move_7 ?_
      exact eMi hQ hx hb hr hlk hP hD hS (Nat.le_of_ble_eq_true rfl) (Nat.le_of_ble_eq_true rfl) dX1_move_8 (⟨-1, (σ 6), (σ 7), σ 13 0, κ, rfl, rfl, .inr (.inr ⟨h1, rfl, rfl, rfl, rfl⟩)⟩)
set_option maxHeartbeats 4000000 in
theorem m_moveM (l : Launch) (G : va_G) (am : Nat → Nat) (ty : Nat → ClassId) (τ ρ : mem) (cs : va_W) (m1 : Int) (F : mem) (hF : okF F) (hSm : Sim F τ) (hSt : wfS (ρ 27) (ρ 28)) (hZ : zerF F) (hmv : rg m1) (hmi : 0 ≤ F 13 0 ∧ F 13 0 ≤ 1000000) : cM l yX12_move (ws_ yX12_move cX12_move 3 (some .int)) (rm4 4 0 0 103) G ty (wM am ty τ ρ ++ cs) [.ref (am 0), .int (ii m1)] 0 0 (fun r W' => ∃ (z : Int) (g : Int → Int) (h : Int → Int) (n : Int) (gp : Int → Int) (gr : Int → Int) (k : Int) (is : Int) (wT : Int → Int) (qT : Int → Int), r = some (.int (ii z)) ∧ W' = wM am ty (up (up (up τ 9 gp) 10 gr) 13 (sc (k))) (up (up (up (up ρ 14 (sc (0))) 27 wT) 28 qT) 36 (sc (is))) ++ cs ∧ (wfS wT qT) ∧ ((isT m1 ∧ mvOk F (F 6) (F 7) m1 ∧ g = mvw (m1 / 1000 % 10) (m1 % 10) (F 6) ∧ h = mvq (m1 / 10000) (m1 / 100 % 10) (m1 % 10) (F 7) ∧ n = F 13 0 + mvV F m1 ∧ z = n) ∨ (isT m1 ∧ ¬ mvOk F (F 6) (F 7) m1 ∧ g = (F 6) ∧ h = (F 7) ∧ n = F 13 0 ∧ z = -3) ∨ (¬ isT m1 ∧ g = (F 6) ∧ h = (F 7) ∧ n = F 13 0 ∧ z = -1)) ∧ (Sim (up (up (up F 6 g) 7 h) 13 (sc n)) (up (up (up τ 9 gp) 10 gr) 13 (sc k))) ∧ ((is = 0 ∨ (is = (ρ 36 0) ∧ z < 0)))) := by
  refine cM.of (by decide) (Nat.le_of_ble_eq_true rfl) ?_
  intro p e s m args below meth c A Q H locs hQ hx hb hr hml hown hlk hname hts hK hP hD hS hA hX ls hl
  have hl : lv_has ls 3 [(0, .ref (am 0)), (1, .int (ii m1))] := hl
  obtain ⟨hW, hWS, hlg⟩ := id hF
  obtain ⟨hw0, hw1, hw2, hw3, hw4, hw5, h8a, h8b, h9a, h9b, h10a, h10b⟩ := id hW
  obtain ⟨mL, mP, mR, mC, mK, mM, mA, mB, mD⟩ := id hSm
  refine lv_aload_n hx hb dX12_move_0 rfl (lv_at hl 0 rfl) ?_
  refine lv_iload_n hx hb dX12_move_1 rfl (lv_at hl 1 rfl) ?_
  refine kM (va_runV (As := [.int (ii m1)]) (rest := []) ⟨hx, hb, hml, hown, hts⟩ ((m_mayM l G am ty τ ρ cs m1 _ (show okF F from hF) (show Sim F τ from hSm) (show wfS (ρ 27) (ρ 28) from hSt) (show zerF F from hZ) (show rg m1 from hmv)) H.size) (cwV 1 hts (lw_V q1549 q1507 q1508 q87 q1509) rfl rfl rfl (by decide +kernel) ⟨Nat.le_of_ble_eq_true rfl, Nat.le_of_ble_eq_true rfl⟩) (pvM (r := (RX12, TX12, 52)) hK hP hD hX 0 (aM_0 _ _ _ _ _) rfl) rfl rfl hl.1 rfl (lv_room (Nat.le_of_ble_eq_true rfl)) dX12_move_2 ⟨Nat.le_of_ble_eq_true rfl, Nat.le_of_ble_eq_true rfl⟩) hD hS hA (fun v ws1 H locs hv hP hD hS => ?_)
  obtain ⟨z2, wT2, qT2, rfl, rfl, hSt2, hal2, hz2, hzr2⟩ := hv
  have hP : va_P G gcl (wM am ty τ (up (up (up ρ 14 (sc (0))) 27 wT2) 28 qT2) ++ cs) H := hP
  have hD : va_D A (wM am ty τ (up (up (up ρ 14 (sc (0))) 27 wT2) 28 qT2) ++ cs) := hD
  have hSt2 : wfS wT2 qT2 := hSt2
  have hal2 : z2 < 0 ∨ alike wT2 qT2 (F 6) (F 7) := hal2
  have hz2 : (isT m1 ∧ ((mvOk F (F 6) (F 7) m1 ∧ z2 = mvV F m1) ∨ (¬ mvOk F (F 6) (F 7) m1 ∧ z2 = -3))) ∨ (¬ isT m1 ∧ z2 = -1) := hz2
  have hzr2 : -3 ≤ z2 ∧ z2 ≤ 312 := hzr2
  refine lv_istore_n (lv' := [(2, .int (ii z2)), (0, .ref (am 0)), (1, .int (ii m1))]) hx hb dX12_move_5 rfl hl (by decide) rfl (fun ls hl => ?_)
  refine lv_iload_n hx hb dX12_move_6 rfl (lv_at hl 0 rfl) ?_
  refine li_if_ge (tgt := 12) hx hb (rg4 ⟨Int.le_trans (by decide) hzr2.1, Int.le_trans hzr2.2 (by decide)⟩) dX12_move_7 (by decide) (fun c7 => ?_) (fun c7 => ?_)
  · have hTz := hz2.resolve_right (fun r => by omega)
    have hT := hTz.1
    have hmz := hTz.2.resolve_right (fun r => by omega)
    have hvb := mvV_b hW hT
    have hal := hal2.resolve_left (by omega)
    have hleg : leg F (cdv (F 6) (F 7)) m1 := (congrFun (lgl_al (alike_cdv hWS)) m1).mp ⟨hT, hmz.1⟩
    have hcd := leg_cand hW hleg
    refine lv_aload_n hx hb dX12_move_12 rfl (lv_at hl 1 rfl) ?_
    refine lv_iload_n hx hb dX12_move_13 rfl (lv_at hl 2 rfl) ?_
    refine li_iconst hx hb dX12_move_14 ?_
    refine kM (va_runV (As := [.int (ii m1), .int (ii 0)]) (rest := []) ⟨hx, hb, hml, hown, hts⟩ ((m_makeM0 l G am ty τ (up (up (up ρ 14 (sc (0))) 27 wT2) 28 qT2) cs m1 _ (show okF F from hF) (show Sim F τ from hSm) (show wfS wT2 qT2 from hSt2) (show isT m1 from hT) (show m1 / 1000 % 10 < p2 (F 9 0) from cand_p2 h9a h9b hcd) (show m1 / 10000 = 3 → m1 / 100 % 10 = 0 from cand_r3 hcd)) H.size) (cwV 2 hts (lw_V q1550 q1552 qs53 q87 q1553) rfl rfl rfl (by decide +kernel) ⟨Nat.le_of_ble_eq_true rfl, Nat.le_of_ble_eq_true rfl⟩) (pvM (r := (RX12, TX12, 52)) hK hP hD hX 0 (aM_0 _ _ _ _ _) rfl) rfl rfl hl.1 rfl (lv_room (Nat.le_of_ble_eq_true rfl)) dX12_move_15 ⟨Nat.le_of_ble_eq_true rfl, Nat.le_of_ble_eq_true rfl⟩) hD hS hA (fun v ws1 H locs hv hP hD hS => ?_)
    obtain ⟨rfl, rfl⟩ := hv
    have hP : va_P G gcl (wM am ty τ (up (up (up ρ 14 (sc (0))) 27 (mvw (m1 / 1000 % 10) (m1 % 10) wT2)) 28 ((mvq (m1 / 10000) (m1 / 100 % 10) (m1 % 10) qT2))) ++ cs) H := hP
    have hD : va_D A (wM am ty τ (up (up (up ρ 14 (sc (0))) 27 (mvw (m1 / 1000 % 10) (m1 % 10) wT2)) 28 ((mvq (m1 / 10000) (m1 / 100 % 10) (m1 % 10) qT2))) ++ cs) := hD
    refine lv_aload_n hx hb dX12_move_18 rfl (lv_at hl 1 rfl) ?_
    refine kM (va_runV (As := []) (rest := []) ⟨hx, hb, hml, hown, hts⟩ ((m_keepStateM l G am ty τ (up (up (up ρ 14 (sc (0))) 27 (mvw (m1 / 1000 % 10) (m1 % 10) wT2)) 28 ((mvq (m1 / 10000) (m1 / 100 % 10) (m1 % 10) qT2))) cs _ (show okF F from hF) (show Sim F τ from hSm) (show wfS (mvw (m1 / 1000 % 10) (m1 % 10) wT2) ((mvq (m1 / 10000) (m1 / 100 % 10) (m1 % 10) qT2)) from nx_wf hT hSt2)) H.size) (cwV 0 hts (lw_V q1554 q1556 qs54 q87 q1557) rfl rfl rfl (by decide +kernel) ⟨Nat.le_of_ble_eq_true rfl, Nat.le_of_ble_eq_true rfl⟩) (pvM (r := (RX12, TX12, 52)) hK hP hD hX 0 (aM_0 _ _ _ _ _) rfl) rfl rfl hl.1 rfl (lv_room (Nat.le_of_ble_eq_true rfl)) dX12_move_19 ⟨Nat.le_of_ble_eq_true rfl, Nat.le_of_ble_eq_true rfl⟩) hD hS hA (fun v ws1 H locs hv hP hD hS => ?_)
    obtain ⟨gp19, gr19, rfl, rfl, hgp19, hgr19⟩ := hv
    have hP : va_P G gcl (wM am ty (up (up τ 9 gp19) 10 gr19) (up (up (up ρ 14 (sc (0))) 27 (mvw (m1 / 1000 % 10) (m1 % 10) wT2)) 28 ((mvq (m1 / 10000) (m1 / 100 % 10) (m1 % 10) qT2))) ++ cs) H := hP
    have hD : va_D A (wM am ty (up (up τ 9 gp19) 10 gr19) (up (up (up ρ 14 (sc (0))) 27 (mvw (m1 / 1000 % 10) (m1 % 10) wT2)) 28 ((mvq (m1 / 10000) (m1 / 100 % 10) (m1 % 10) qT2))) ++ cs) := hD
    have hgp19 : ∀ i, 0 ≤ i → i < F 9 0 → gp19 i = (mvw (m1 / 1000 % 10) (m1 % 10) wT2) i := hgp19
    have hgr19 : ∀ i, 0 ≤ i → i < F 10 0 → gr19 i = ((mvq (m1 / 10000) (m1 / 100 % 10) (m1 % 10) qT2)) i := hgr19
    refine lv_aload_n hx hb dX12_move_22 rfl (lv_at hl 1 rfl) ?_
    refine li_iconst hx hb dX12_move_23 ?_
    refine va_put (D := G) (ci := 11) (v := .int (ii 0)) (ty := .boolean) (C := RX12) (T := TX12) (N := 52) hx hb hts in_X12 tyX12 tyX12_ok nmX12 hown hK hP hD hS 0 (aM_0 _ _ _ _ _) rfl 36 (by decide) (hts _ q1301) (fun _ h9 => h9) rfl (tyX12_ok 36 (by decide)) (nrw_z (by omega)) (fit_z (by omega)) (Nat.le_of_ble_eq_true rfl) dX12_move_24 (fun H locs hP hD hS => ?_)
    have hP : va_P G gcl (wM am ty (up (up τ 9 gp19) 10 gr19) (up (up (up (up ρ 14 (sc (0))) 27 (mvw (m1 / 1000 % 10) (m1 % 10) wT2)) 28 ((mvq (m1 / 10000) (m1 / 100 % 10) (m1 % 10) qT2))) 36 (sc (0))) ++ cs) H := hP
    have hD : va_D A (wM am ty (up (up τ 9 gp19) 10 gr19) (up (up (up (up ρ 14 (sc (0))) 27 (mvw (m1 / 1000 % 10) (m1 % 10) wT2)) 28 ((mvq (m1 / 10000) (m1 / 100 % 10) (m1 % 10) qT2))) 36 (sc (0))) ++ cs) := hD
    refine lv_aload_n hx hb dX12_move_27 rfl (lv_at hl 1 rfl) ?_
    refine lv_dup hx hb dX12_move_28 rfl ?_
    refine va_get (D := G) (ci := 11) (v := .int (ii (τ 13 0))) (C := RX12) (T := TX12) (N := 52) hx hb hts in_X12 hown hK hP 0 (aM_0 _ _ _ _ _) rfl 13 (by decide) (hts _ q1278) (fun _ h9 => h9) rfl dX12_move_29 ?_
    refine lv_iload_n hx hb dX12_move_32 rfl (lv_at hl 0 rfl) ?_
    refine li_add hx hb dX12_move_33 ?_
    refine va_put (D := G) (ci := 11) (v := .int (ii (τ 13 0 + z2))) (ty := .int) (C := RX12) (T := TX12) (N := 52) hx hb hts in_X12 tyX12 tyX12_ok nmX12 hown hK hP hD hS 0 (aM_0 _ _ _ _ _) rfl 13 (by decide) (hts _ q1278) (fun _ h9 => h9) rfl (tyX12_ok 13 (by decide)) rfl rfl (Nat.le_of_ble_eq_true rfl) dX12_move_34 (fun H locs hP hD hS => ?_)
    have hP : va_P G gcl (wM am ty (up (up (up τ 9 gp19) 10 gr19) 13 (sc (τ 13 0 + z2))) (up (up (up (up ρ 14 (sc (0))) 27 (mvw (m1 / 1000 % 10) (m1 % 10) wT2)) 28 ((mvq (m1 / 10000) (m1 / 100 % 10) (m1 % 10) qT2))) 36 (sc (0))) ++ cs) H := hP
    have hD : va_D A (wM am ty (up (up (up τ 9 gp19) 10 gr19) 13 (sc (τ 13 0 + z2))) (up (up (up (up ρ 14 (sc (0))) 27 (mvw (m1 / 1000 % 10) (m1 % 10) wT2)) 28 ((mvq (m1 / 10000) (m1 / 100 % 10) (m1 % 10) qT2))) 36 (sc (0))) ++ cs) := hD
    refine lv_aload_n hx hb dX12_move_37 rfl (lv_at hl 1 rfl) ?_
    refine va_get (D := G) (ci := 11) (v := .int (ii (τ 13 0 + z2))) (C := RX12) (T := TX12) (N := 52) hx hb hts in_X12 hown hK hP 0 (aM_0 _ _ _ _ _) rfl 13 (by decide) (hts _ q1278) (fun _ h9 => h9) rfl dX12_move_38 ?_
    exact eMi hQ hx hb hr hlk hP hD hS (Nat.le_of_ble_eq_true rfl) (Nat.le_of_ble_eq_true rfl) dX12_move_41 (⟨τ 13 0 + z2, (mvw (m1 / 1000 % 10) (m1 % 10) (F 6)), (mvq (m1 / 10000) (m1 / 100 % 10) (m1 % 10) (F 7)), (F 13 0 + z2), gp19, gr19, τ 13 0 + z2, 0, (mvw (m1 / 1000 % 10) (m1 % 10) wT2), ((mvq (m1 / 10000) (m1 / 100 % 10) (m1 % 10) qT2)), rfl, rfl, nx_wf hT hSt2, .inl ⟨hT, hmz.1, rfl, rfl, by rw [hmz.2], by rw [mM]⟩, Sim_move hSm h9b h10b hal hgp19 hgr19 (by rw [mM]), .inl rfl⟩)
  · refine lv_iload_n hx hb dX12_move_10 rfl (lv_at hl 0 rfl) ?_
    exact eMi hQ hx hb hr hlk hP hD hS (Nat.le_of_ble_eq_true rfl) (Nat.le_of_ble_eq_true rfl) dX12_move_11 (⟨z2, (F 6), (F 7), (F 13 0), (τ 9), (τ 10), τ 13 0, ρ 36 0, wT2, qT2, rfl, rfl, hSt2, by rcases hz2 with ⟨a, b⟩ | ⟨a, b⟩; (rcases b with b | b; (have := mvV_b hW a; omega); exact .inr (.inl ⟨a, b.1, rfl, rfl, rfl, b.2⟩)); exact .inr (.inr ⟨a, rfl, rfl, rfl, b⟩), Sim_keep hSm, .inr ⟨rfl, c7⟩⟩)
set_option maxHeartbeats 4000000 in
theorem m_moves (l : Launch) (G : va_G) (ad : Nat → Nat) (ty : Nat → ClassId) (hv : Nat → Option Nat) (σ ς κ : mem) (cs : va_W) (i1 : Int)  (hF : okF σ) (hi : rg i1) : cM l yX1_moves (ws_ yX1_moves cX1_moves 2 (some .int)) (rm4 5 0 0 120) G ty (wD ad ty hv σ ς κ ++ cs) [.ref (ad 0), .int (ii i1)] 0 0 (fun r W' => ∃ (z : Int) (ga : Int → Int) (gb : Int → Int) (na : Int) (κ' : mem), r = some (.int (ii z)) ∧ W' = wD ad ty hv σ (up (up (up ς 0 ga) 1 gb) 2 (sc (na))) κ' ++ cs ∧ ((i1 = -1 ∧ z = cn (leg σ (cdv (σ 6) (σ 7))) 70000) ∨ (0 ≤ i1 ∧ i1 < cn (leg σ (cdv (σ 6) (σ 7))) 70000 ∧ leg σ (cdv (σ 6) (σ 7)) z ∧ cn (leg σ (cdv (σ 6) (σ 7))) z = i1) ∨ ((i1 < -1 ∨ cn (leg σ (cdv (σ 6) (σ 7))) 70000 ≤ i1) ∧ ¬ i1 = -1 ∧ z = -4))) := by
  refine cM.of (by decide) (Nat.le_of_ble_eq_true rfl) ?_
  intro p e s m args below meth c A Q H locs hQ hx hb hr hml hown hlk hname hts hK hP hD hS hA hX ls hl
  have hl : lv_has ls 2 [(0, .ref (ad 0)), (1, .int (ii i1))] := hl
  obtain ⟨hW, hWS, hlg⟩ := id hF
  obtain ⟨hw0, hw1, hw2, hw3, hw4, hw5, h8a, h8b, h9a, h9b, h10a, h10b⟩ := id hW
  obtain ⟨hs0, hs1⟩ := id hWS
  obtain ⟨hia, hib⟩ := id hi
  refine lv_iload_n hx hb dX1_moves_0 rfl (lv_at hl 1 rfl) ?_
  refine li_iconst hx hb dX1_moves_1 ?_
  refine li_icmp_ge (tgt := 8) hx hb hi ⟨by decide, by decide⟩ dX1_moves_2 (by decide) (fun c2 => ?_) (fun c2 => ?_)
  · refine lv_aload_n hx hb dX1_moves_8 rfl (lv_at hl 0 rfl) ?_
    refine lv_aload_n hx hb dX1_moves_9 rfl (lv_at hl 0 rfl) ?_
    refine va_get (D := G) (ci := 0) (v := .ref (ad 1)) (C := RX1) (T := TX1) (N := 21) hx hb hts in_X1 hown hK hP 0 (aD_0 _ _ _ _ _ _ _) rfl 0 (by decide) (hts _ q977) (fun _ h9 => h9) rfl dX1_moves_10 ?_
    refine va_get (D := G) (ci := 1) (v := .ref (ad 8)) (C := RX2) (T := TX2) (N := 13) hx hb hts in_X2 hown hK hP 1 (aD_1 _ _ _ _ _ _ _) rfl 12 (by decide) (hts _ q810) (fun _ h9 => h9) rfl dX1_moves_13 ?_
    refine kM (va_runV (As := [.ref (ad 8)]) (rest := []) ⟨hx, hb, hml, hown, hts⟩ (m_listsN l G ad ty hv σ ς κ cs hW hWS hlg H.size) (cwV 1 hts (lw_V q545 q547 qs19 q76 q548) rfl rfl rfl (by decide +kernel) ⟨Nat.le_of_ble_eq_true rfl, Nat.le_of_ble_eq_true rfl⟩) (pvM (r := (RX1, TX1, 21)) hK hP hD hX 0 (aD_0 _ _ _ _ _ _ _) rfl) rfl rfl hl.1 rfl (lv_room (Nat.le_of_ble_eq_true rfl)) dX1_moves_16 ⟨Nat.le_of_ble_eq_true rfl, Nat.le_of_ble_eq_true rfl⟩) hD hS hA (fun v ws1 H locs hv hP hD hS => ?_)
    obtain ⟨gl16, gm16, nl16, κ16, rfl, rfl, hLI16, hn016, hn116⟩ := hv
    have hP : va_P G gcl (wD ad ty hv σ (up (up (up ς 0 gl16) 1 gm16) 2 (sc (nl16))) κ16 ++ cs) H := hP
    have hD : va_D A (wD ad ty hv σ (up (up (up ς 0 gl16) 1 gm16) 2 (sc (nl16))) κ16 ++ cs) := hD
    have hLI16 : LI (leg σ (cdv (σ 6) (σ 7))) (mvV σ) gl16 gm16 nl16 70000 := LI_st hWS hLI16
    refine lv_iload_n hx hb dX1_moves_19 rfl (lv_at hl 1 rfl) ?_
    refine li_iconst hx hb dX1_moves_20 ?_
    refine li_icmp_ne (tgt := 31) hx hb hi ⟨by decide, by decide⟩ dX1_moves_21 (by decide) (fun c21 => ?_) (fun c21 => ?_)
    · refine lv_iload_n hx hb dX1_moves_31 rfl (lv_at hl 1 rfl) ?_
      refine lv_aload_n hx hb dX1_moves_32 rfl (lv_at hl 0 rfl) ?_
      refine va_get (D := G) (ci := 0) (v := .int (ii nl16)) (C := RX1) (T := TX1) (N := 21) hx hb hts in_X1 hown hK hP 0 (aD_0 _ _ _ _ _ _ _) rfl 7 (by decide) (hts _ q984) (fun _ h9 => h9) rfl dX1_moves_33 ?_
      refine li_icmp_ge (tgt := 48) hx hb hi ⟨by omega, by omega⟩ dX1_moves_36 (by decide) (fun c36 => ?_) (fun c36 => ?_)
      · refine li_bipush hx hb dX1_moves_48 (by decide) ?_
        exact eMi hQ hx hb hr hlk hP hD hS (Nat.le_of_ble_eq_true rfl) (Nat.le_of_ble_eq_true rfl) dX1_moves_50 (⟨-4, gl16, gm16, nl16, κ16, rfl, rfl, .inr (.inr ⟨.inr (by have := hLI16.1; omega), by omega, rfl⟩)⟩)
      · obtain ⟨ha0, ha1, hleg, hval, hcn⟩ := LI_at hLI16 (by decide) (j := i1) (by omega) c36
        refine lv_aload_n hx hb dX1_moves_39 rfl (lv_at hl 0 rfl) ?_
        refine va_get (D := G) (ci := 0) (v := .ref (ad 39)) (C := RX1) (T := TX1) (N := 21) hx hb hts in_X1 hown hK hP 0 (aD_0 _ _ _ _ _ _ _) rfl 5 (by decide) (hts _ q982) (fun _ h9 => h9) rfl dX1_moves_40 ?_
        refine lv_iload_n hx hb dX1_moves_43 rfl (lv_at hl 1 rfl) ?_
        refine li_iald (g := gl16) hx hb hK hP 39 0 (aD_39 _ _ _ _ _ _ _) rfl (by omega) (by omega) (by decide) dX1_moves_44 ?_
        refine lv_goto (tgt := 50) hx hb dX1_moves_45 (by decide) ?_
        exact eMi hQ hx hb hr hlk hP hD hS (Nat.le_of_ble_eq_true rfl) (Nat.le_of_ble_eq_true rfl) dX1_moves_50 (⟨gl16 i1, gl16, gm16, nl16, κ16, rfl, rfl, .inr (.inl ⟨by omega, by have := hLI16.1; omega, hleg, hcn⟩)⟩)
    · refine lv_aload_n hx hb dX1_moves_24 rfl (lv_at hl 0 rfl) ?_
      refine va_get (D := G) (ci := 0) (v := .int (ii nl16)) (C := RX1) (T := TX1) (N := 21) hx hb hts in_X1 hown hK hP 0 (aD_0 _ _ _ _ _ _ _) rfl 7 (by decide) (hts _ q984) (fun _ h9 => h9) rfl dX1_moves_25 ?_
      refine lv_goto (tgt := 50) hx hb dX1_moves_28 (by decide) ?_
      exact eMi hQ hx hb hr hlk hP hD hS (Nat.le_of_ble_eq_true rfl) (Nat.le_of_ble_eq_true rfl) dX1_moves_50 (⟨nl16, gl16, gm16, nl16, κ16, rfl, rfl, .inl ⟨c21, hLI16.1⟩⟩)
  · refine li_bipush hx hb dX1_moves_5 (by decide) ?_
    exact eMi hQ hx hb hr hlk hP hD hS (Nat.le_of_ble_eq_true rfl) (Nat.le_of_ble_eq_true rfl) dX1_moves_7 (⟨-4, (ς 0), (ς 1), ς 2 0, κ, rfl, rfl, .inr (.inr ⟨.inl (by omega), by omega, rfl⟩)⟩)
set_option maxHeartbeats 4000000 in
theorem m_movesM (l : Launch) (G : va_G) (am : Nat → Nat) (ty : Nat → ClassId) (τ ρ : mem) (cs : va_W) (i1 : Int) (F : mem) (hF : okF F) (hSm : Sim F τ) (hSt : wfS (ρ 27) (ρ 28)) (hZ : zerF F) (hi : rg i1) : cM l yX12_moves (ws_ yX12_moves cX12_moves 4 (some .int)) (rm4 3 0 0 81) G ty (wM am ty τ ρ ++ cs) [.ref (am 0), .int (ii i1)] 0 0 (fun r W' => ∃ (z : Int) (gm : Int → Int) (nm : Int) (wT : Int → Int) (qT : Int → Int), r = some (.int (ii z)) ∧ W' = wM am ty τ (up (up (up (up (up ρ 14 (sc (0))) 27 wT) 28 qT) 29 gm) 30 (sc (nm))) ++ cs ∧ (wfS wT qT) ∧ (LL (cand F) gm nm 70000) ∧ (0 ≤ nm ∧ nm ≤ 2400) ∧ ((i1 = -1 ∧ z = cn (leg F (cdv (F 6) (F 7))) 70000) ∨ (0 ≤ i1 ∧ i1 < cn (leg F (cdv (F 6) (F 7))) 70000 ∧ leg F (cdv (F 6) (F 7)) z ∧ cn (leg F (cdv (F 6) (F 7))) z = i1) ∨ ((i1 < -1 ∨ cn (leg F (cdv (F 6) (F 7))) 70000 ≤ i1) ∧ ¬ i1 = -1 ∧ z = -4))) := by
  refine cM.of (by decide) (Nat.le_of_ble_eq_true rfl) ?_
  intro p e s m args below meth c A Q H locs hQ hx hb hr hml hown hlk hname hts hK hP hD hS hA hX ls hl
  have hl : lv_has ls 4 [(0, .ref (am 0)), (1, .int (ii i1))] := hl
  obtain ⟨hW, hWS, hlg⟩ := id hF
  obtain ⟨hw0, hw1, hw2, hw3, hw4, hw5, h8a, h8b, h9a, h9b, h10a, h10b⟩ := id hW
  obtain ⟨mL, mP, mR, mC, mK, mM, mA, mB, mD⟩ := id hSm
  obtain ⟨hia, hib⟩ := id hi
  have hst := (cdv_dig hWS.1 hWS.2).1
  refine lv_aload_n hx hb dX12_moves_0 rfl (lv_at hl 0 rfl) ?_
  refine li_iconst hx hb dX12_moves_1 ?_
  refine va_put (D := G) (ci := 11) (v := .int (ii 0)) (ty := .int) (C := RX12) (T := TX12) (N := 52) hx hb hts in_X12 tyX12 tyX12_ok nmX12 hown hK hP hD hS 0 (aM_0 _ _ _ _ _) rfl 14 (by decide) (hts _ q1279) (fun _ h9 => h9) rfl (tyX12_ok 14 (by decide)) rfl rfl (Nat.le_of_ble_eq_true rfl) dX12_moves_2 (fun H locs hP hD hS => ?_)
  have hP : va_P G gcl (wM am ty τ (up ρ 14 (sc (0))) ++ cs) H := hP
  have hD : va_D A (wM am ty τ (up ρ 14 (sc (0))) ++ cs) := hD
  refine lv_aload_n hx hb dX12_moves_5 rfl (lv_at hl 0 rfl) ?_
  refine kM (va_runV (As := []) (rest := []) ⟨hx, hb, hml, hown, hts⟩ ((m_findMovesM l G am ty τ (up ρ 14 (sc (0))) cs _ (show okF F from hF) (show Sim F τ from hSm)) H.size) (cwV 0 hts (lw_V q1562 q1564 qs55 q87 q1565) rfl rfl rfl (by decide +kernel) ⟨Nat.le_of_ble_eq_true rfl, Nat.le_of_ble_eq_true rfl⟩) (pvM (r := (RX12, TX12, 52)) hK hP hD hX 0 (aM_0 _ _ _ _ _) rfl) rfl rfl hl.1 rfl (lv_room (Nat.le_of_ble_eq_true rfl)) dX12_moves_6 ⟨Nat.le_of_ble_eq_true rfl, Nat.le_of_ble_eq_true rfl⟩) hD hS hA (fun v ws1 H locs hv hP hD hS => ?_)
  obtain ⟨gm6, nm6, rfl, rfl, hCL6, hnm6⟩ := hv
  have hP : va_P G gcl (wM am ty τ (up (up (up ρ 14 (sc (0))) 29 gm6) 30 (sc (nm6))) ++ cs) H := hP
  have hD : va_D A (wM am ty τ (up (up (up ρ 14 (sc (0))) 29 gm6) 30 (sc (nm6))) ++ cs) := hD
  have hCL6 : LL (cand F) gm6 nm6 70000 := hCL6
  have hnm6 : 0 ≤ nm6 ∧ nm6 ≤ 2400 := hnm6
  refine lv_aload_n hx hb dX12_moves_9 rfl (lv_at hl 0 rfl) ?_
  refine lv_aload_n hx hb dX12_moves_10 rfl (lv_at hl 0 rfl) ?_
  refine kR (va_runV (As := []) (rest := [.ref (am 0)]) ⟨hx, hb, hml, hown, hts⟩ (m_stateNowM l G am ty τ (up (up (up ρ 14 (sc (0))) 29 gm6) 30 (sc (nm6))) cs _ (show okF F from hF) (show Sim F τ from hSm) (show zerF F from hZ)) (cwV 0 hts (lw_V q1514 q1516 qs46 q87 q1517) rfl rfl rfl (by decide +kernel) ⟨Nat.le_of_ble_eq_true rfl, Nat.le_of_ble_eq_true rfl⟩) (pvR (r := (RX12, TX12, 52)) hK hP hD hX 0 (aM_0 _ _ _ _ _) rfl) rfl rfl hl.1 rfl (lv_room (Nat.le_of_ble_eq_true rfl)) dX12_moves_11 ⟨Nat.le_of_ble_eq_true rfl, Nat.le_of_ble_eq_true rfl⟩) (fun v hv => ?_)
  have hv := hv
  subst hv
  refine kM (va_runV (As := [.int (ii (cdv (F 6) (F 7)))]) (rest := []) ⟨hx, hb, hml, hown, hts⟩ ((m_openM l G am ty τ (up (up (up ρ 14 (sc (0))) 29 gm6) 30 (sc (nm6))) cs (cdv (F 6) (F 7)) (show inSt (cdv (F 6) (F 7)) from hst)) H.size) (cwV 1 hts (lw_V q1518 q1520 qs47 q87 q1521) rfl rfl rfl (by decide +kernel) ⟨Nat.le_of_ble_eq_true rfl, Nat.le_of_ble_eq_true rfl⟩) (pvM (r := (RX12, TX12, 52)) hK hP hD hX 0 (aM_0 _ _ _ _ _) rfl) rfl rfl hl.1 rfl (lv_room (Nat.le_of_ble_eq_true rfl)) dX12_moves_14 ⟨Nat.le_of_ble_eq_true rfl, Nat.le_of_ble_eq_true rfl⟩) hD hS hA (fun v ws1 H locs hv hP hD hS => ?_)
  obtain ⟨rfl, rfl, hal14⟩ := hv
  have hP : va_P G gcl (wM am ty τ (up (up (up (up (up ρ 14 (sc (0))) 29 gm6) 30 (sc (nm6))) 27 (dcw (cdv (F 6) (F 7)) (ρ 27))) 28 (dcq (cdv (F 6) (F 7)) (ρ 28))) ++ cs) H := hP
  have hD : va_D A (wM am ty τ (up (up (up (up (up ρ 14 (sc (0))) 29 gm6) 30 (sc (nm6))) 27 (dcw (cdv (F 6) (F 7)) (ρ 27))) 28 (dcq (cdv (F 6) (F 7)) (ρ 28))) ++ cs) := hD
  have hal14 : alike (dcw (cdv (F 6) (F 7)) (ρ 27)) (dcq (cdv (F 6) (F 7)) (ρ 28)) (stW (cdv (F 6) (F 7))) (stQ (cdv (F 6) (F 7))) := hal14
  have hS2 : wfS (dcw (cdv (F 6) (F 7)) (ρ 27)) (dcq (cdv (F 6) (F 7)) (ρ 28)) := ⟨dcw_b hSt.1, dcq_b hSt.2⟩
  refine li_iconst hx hb dX12_moves_17 ?_
  refine lv_istore_n (lv' := [(2, .int (ii 0)), (0, .ref (am 0)), (1, .int (ii i1))]) hx hb dX12_moves_18 rfl hl (by decide) rfl (fun ls hl => ?_)
  refine li_iconst hx hb dX12_moves_19 ?_
  refine lv_istore_n (lv' := [(3, .int (ii 0)), (2, .int (ii 0)), (0, .ref (am 0)), (1, .int (ii i1))]) hx hb dX12_moves_20 rfl hl (by decide) rfl (fun ls hl => ?_)
  have L21 : ∀ (n : Nat) (k1 : Int) (n1 : Int) (_ : 0 ≤ k1) (_ : k1 ≤ nm6) (_ : n1 = cn (fun j => leg F (cdv (F 6) (F 7)) (gm6 j)) k1) (_ : 0 ≤ i1 → n1 ≤ i1) (_ : 0 ≤ n1 ∧ n1 ≤ k1) (_ : (nm6 - k1).toNat < n) (H : Heap) (locs : List Loc) (_ : va_P G gcl (wM am ty τ (up (up (up (up (up ρ 14 (sc (0))) 29 gm6) 30 (sc (nm6))) 27 (dcw (cdv (F 6) (F 7)) (ρ 27))) 28 (dcq (cdv (F 6) (F 7)) (ρ 28))) ++ cs) H) (_ : va_D A (wM am ty τ (up (up (up (up (up ρ 14 (sc (0))) 29 gm6) 30 (sc (nm6))) 27 (dcw (cdv (F 6) (F 7)) (ρ 27))) 28 (dcq (cdv (F 6) (F 7)) (ρ 28))) ++ cs)) (_ : va_S A s.heap H locs) (ls : Array Slot), lv_has ls 4 [(3, .int (ii k1)), (2, .int (ii n1)), (0, .ref (am 0)), (1, .int (ii i1))] → W p l e (rm4 3 0 0 81) s m args below meth c H locs 0 0 Q (F0 m 21 ls []) := by
    intro n
    induction n with
    | zero =>
      intro k1 n1 hk0 hk1 hct hne hn2 hm
      exact absurd hm (Nat.not_lt_zero _)
    | succ n ih =>
      intro k1 n1 hk0 hk1 hct hne hn2 hm H locs hP hD hS ls hl
      refine lv_iload_n hx hb dX12_moves_21 rfl (lv_at hl 0 rfl) ?_
      refine lv_aload_n hx hb dX12_moves_22 rfl (lv_at hl 2 rfl) ?_
      refine va_get (D := G) (ci := 11) (v := .int (ii nm6)) (C := RX12) (T := TX12) (N := 52) hx hb hts in_X12 hown hK hP 0 (aM_0 _ _ _ _ _) rfl 30 (by decide) (hts _ q1295) (fun _ h9 => h9) rfl dX12_moves_23 ?_
      refine li_icmp_ge (tgt := 63) hx hb ⟨by omega, by omega⟩ ⟨by omega, by omega⟩ dX12_moves_26 (by decide) (fun c26 => ?_) (fun c26 => ?_)
      · refine lv_iload_n hx hb dX12_moves_63 rfl (lv_at hl 3 rfl) ?_
        refine li_iconst hx hb dX12_moves_64 ?_
        refine li_icmp_ne (tgt := 72) hx hb hi ⟨by decide, by decide⟩ dX12_moves_65 (by decide) (fun c65 => ?_) (fun c65 => ?_)
        · refine li_bipush hx hb dX12_moves_72 (by decide) ?_
          exact eMi hQ hx hb hr hlk hP hD hS (Nat.le_of_ble_eq_true rfl) (Nat.le_of_ble_eq_true rfl) dX12_moves_74 (⟨-4, gm6, nm6, (dcw (cdv (F 6) (F 7)) (ρ 27)), (dcq (cdv (F 6) (F 7)) (ρ 28)), rfl, rfl, hS2, hCL6, hnm6, .inr (.inr ⟨by have h := cn_all hCL6 (L := leg F (cdv (F 6) (F 7))) (fun x q => leg_cand hW q); rw [show nm6 = k1 by omega, ← hct] at h; omega, c65, rfl⟩)⟩)
        · refine lv_iload_n hx hb dX12_moves_68 rfl (lv_at hl 1 rfl) ?_
          refine lv_goto (tgt := 74) hx hb dX12_moves_69 (by decide) ?_
          exact eMi hQ hx hb hr hlk hP hD hS (Nat.le_of_ble_eq_true rfl) (Nat.le_of_ble_eq_true rfl) dX12_moves_74 (⟨n1, gm6, nm6, (dcw (cdv (F 6) (F 7)) (ρ 27)), (dcq (cdv (F 6) (F 7)) (ρ 28)), rfl, rfl, hS2, hCL6, hnm6, .inl ⟨c65, by rw [hct, show k1 = nm6 by omega]; exact (cn_all hCL6 (fun x q => leg_cand hW q)).symm⟩⟩)
      · obtain ⟨ha0, ha1, hcd, hcn⟩ := LL_at hCL6 (by decide) hk0 c26
        have hvb := mvV_b hW hcd.1
        have hlg2 : mvOk F (dcw (cdv (F 6) (F 7)) (ρ 27)) (dcq (cdv (F 6) (F 7)) (ρ 28)) (gm6 k1) ↔ leg F (cdv (F 6) (F 7)) (gm6 k1) := ⟨fun q => (congrFun (lgl_al hal14) _).mp ⟨hcd.1, q⟩, fun q => ((congrFun (lgl_al hal14) _).mpr q).2⟩
        have hcl := cn_list hCL6 (fun x q => leg_cand hW q) (L := leg F (cdv (F 6) (F 7))) (gm6 k1) (by omega) (by omega)
        rw [hcn] at hcl
        refine lv_aload_n hx hb dX12_moves_29 rfl (lv_at hl 2 rfl) ?_
        refine lv_aload_n hx hb dX12_moves_30 rfl (lv_at hl 2 rfl) ?_
        refine va_get (D := G) (ci := 11) (v := .ref (am 18)) (C := RX12) (T := TX12) (N := 52) hx hb hts in_X12 hown hK hP 0 (aM_0 _ _ _ _ _) rfl 29 (by decide) (hts _ q1294) (fun _ h9 => h9) rfl dX12_moves_31 ?_
        refine lv_iload_n hx hb dX12_moves_34 rfl (lv_at hl 0 rfl) ?_
        refine li_iald (g := gm6) hx hb hK hP 18 0 (aM_18 _ _ _ _ _) rfl (by omega) (by omega) (by decide) dX12_moves_35 ?_
        refine kR (va_runV (As := [.int (ii (gm6 k1))]) (rest := []) ⟨hx, hb, hml, hown, hts⟩ (m_minutesOfM l G am ty τ (up (up (up (up (up ρ 14 (sc (0))) 29 gm6) 30 (sc (nm6))) 27 (dcw (cdv (F 6) (F 7)) (ρ 27))) 28 (dcq (cdv (F 6) (F 7)) (ρ 28))) cs (gm6 k1) _ (show okF F from hF) (show Sim F τ from hSm) (show wfS (dcw (cdv (F 6) (F 7)) (ρ 27)) (dcq (cdv (F 6) (F 7)) (ρ 28)) from hS2) (show isT (gm6 k1) from hcd.1)) (cwV 1 hts (lw_V q1522 q1524 qs48 q87 q1525) rfl rfl rfl (by decide +kernel) ⟨Nat.le_of_ble_eq_true rfl, Nat.le_of_ble_eq_true rfl⟩) (pvR (r := (RX12, TX12, 52)) hK hP hD hX 0 (aM_0 _ _ _ _ _) rfl) rfl rfl hl.1 rfl (lv_room (Nat.le_of_ble_eq_true rfl)) dX12_moves_36 ⟨Nat.le_of_ble_eq_true rfl, Nat.le_of_ble_eq_true rfl⟩) (fun v hv => ?_)
        obtain ⟨z36, rfl, hz36⟩ := hv
        have hz36 : (mvOk F (dcw (cdv (F 6) (F 7)) (ρ 27)) (dcq (cdv (F 6) (F 7)) (ρ 28)) (gm6 k1) ∧ z36 = mvV F (gm6 k1)) ∨ (¬ mvOk F (dcw (cdv (F 6) (F 7)) (ρ 27)) (dcq (cdv (F 6) (F 7)) (ρ 28)) (gm6 k1) ∧ z36 = -1) := hz36
        have hzr36 : -1 ≤ z36 ∧ z36 ≤ 312 := mz_b hW (hcd.1) hz36
        refine li_if_lt (tgt := 57) hx hb (rg4 ⟨Int.le_trans (by decide) hzr36.1, Int.le_trans hzr36.2 (by decide)⟩) dX12_moves_39 (by decide) (fun c39 => ?_) (fun c39 => ?_)
        · refine li_iinc (a := k1) (lv' := [(3, .int (ii (k1 + 1))), (2, .int (ii n1)), (0, .ref (am 0)), (1, .int (ii i1))]) hx hb dX12_moves_57 hl (k := 0) rfl (by decide) rfl (fun ls hl => ?_)
          refine lv_goto (tgt := 21) hx hb dX12_moves_60 (by decide) ?_
          exact ih (k1 + 1) n1 (by omega) (by omega) (by rw [cn_n (P := fun j => leg F (cdv (F 6) (F 7)) (gm6 j)) hk0 (fun q => (hz36.resolve_left (fun r => by have := r.2; omega)).1 (hlg2.mpr q))]; exact hct) (by omega) (by omega) (by omega) H locs hP hD hS ls (lv_sub hl [0, 1, 2, 3] rfl)
        · have hleg := hlg2.mp (hz36.resolve_right (fun r => by omega)).1
          refine lv_iload_n hx hb dX12_moves_42 rfl (lv_at hl 1 rfl) ?_
          refine lv_iload_n hx hb dX12_moves_43 rfl (lv_at hl 3 rfl) ?_
          refine li_icmp_ne (tgt := 54) hx hb ⟨by omega, by omega⟩ hi dX12_moves_44 (by decide) (fun c44 => ?_) (fun c44 => ?_)
          · refine li_iinc (a := n1) (lv' := [(2, .int (ii (n1 + 1))), (3, .int (ii k1)), (0, .ref (am 0)), (1, .int (ii i1))]) hx hb dX12_moves_54 hl (k := 1) rfl (by decide) rfl (fun ls hl => ?_)
            refine li_iinc (a := k1) (lv' := [(3, .int (ii (k1 + 1))), (2, .int (ii (n1 + 1))), (0, .ref (am 0)), (1, .int (ii i1))]) hx hb dX12_moves_57 hl (k := 1) rfl (by decide) rfl (fun ls hl => ?_)
            refine lv_goto (tgt := 21) hx hb dX12_moves_60 (by decide) ?_
            exact ih (k1 + 1) (n1 + 1) (by omega) (by omega) (by rw [cn_s (P := fun j => leg F (cdv (F 6) (F 7)) (gm6 j)) hk0 hleg, hct]) (by omega) (by omega) (by omega) H locs hP hD hS ls (lv_sub hl [0, 1, 2, 3] rfl)
          · refine lv_aload_n hx hb dX12_moves_47 rfl (lv_at hl 2 rfl) ?_
            refine va_get (D := G) (ci := 11) (v := .ref (am 18)) (C := RX12) (T := TX12) (N := 52) hx hb hts in_X12 hown hK hP 0 (aM_0 _ _ _ _ _) rfl 29 (by decide) (hts _ q1294) (fun _ h9 => h9) rfl dX12_moves_48 ?_
            refine lv_iload_n hx hb dX12_moves_51 rfl (lv_at hl 0 rfl) ?_
            refine li_iald (g := gm6) hx hb hK hP 18 0 (aM_18 _ _ _ _ _) rfl (by omega) (by omega) (by decide) dX12_moves_52 ?_
            exact eMi hQ hx hb hr hlk hP hD hS (Nat.le_of_ble_eq_true rfl) (Nat.le_of_ble_eq_true rfl) dX12_moves_53 (⟨gm6 k1, gm6, nm6, (dcw (cdv (F 6) (F 7)) (ρ 27)), (dcq (cdv (F 6) (F 7)) (ρ 28)), rfl, rfl, hS2, hCL6, hnm6, .inr (.inl ⟨by omega, by have := cn_lt (P := leg F (cdv (F 6) (F 7))) (a := gm6 k1) (b := 70000) (by omega) (by omega) hleg; omega, hleg, by rw [hcl, ← hct]; exact c44⟩)⟩)
  exact L21 _ 0 0 (by omega) (by omega) ((cn_0 _).symm) (fun q => q) (⟨by decide, by decide⟩) (Nat.lt_succ_self _) H locs hP hD hS ls (lv_sub hl [0, 1, 2, 3] rfl)
set_option maxHeartbeats 4000000 in
theorem m_count (l : Launch) (G : va_G) (ad : Nat → Nat) (ty : Nat → ClassId) (hv : Nat → Option Nat) (σ ς κ : mem) (cs : va_W) (i1 : Int)  (hF : okF σ) (hT : wfS (ς 11) (ς 12)) (hi : rg i1) (hmi : 0 ≤ (σ 13 0) ∧ (σ 13 0) ≤ 1000000) : cM l yX1_count (ws_ yX1_count cX1_count 4 (some .int)) (rm4 2 0 0 46) G ty (wD ad ty hv σ ς κ ++ cs) [.ref (ad 0), .int (ii i1)] 0 0 (fun r W' => ∃ (z : Int) (wT : Int → Int) (qT : Int → Int) (κ' : mem), r = some (.int (ii z)) ∧ W' = wD ad ty hv σ (up (up ς 11 wT) 12 qT) κ' ++ cs ∧ (wfS wT qT) ∧ (((i1 = 0 ∧ z = (σ 8 0)) ∨ (i1 = 1 ∧ z = (σ 9 0)) ∨ (i1 = 2 ∧ z = (σ 10 0)) ∨ (i1 = 3 ∧ z = lf σ (cdv (σ 6) (σ 7))) ∨ (i1 = 4 ∧ z = (σ 13 0)) ∨ (i1 = 5 ∧ z = fs (σ 2) 0 ((σ 8 0) - 1)) ∨ ((i1 < 0 ∨ 5 < i1) ∧ z = -1)))) := by
  refine cM.of (by decide) (Nat.le_of_ble_eq_true rfl) ?_
  intro p e s m args below meth c A Q H locs hQ hx hb hr hml hown hlk hname hts hK hP hD hS hA hX ls hl
  have hl : lv_has ls 4 [(0, .ref (ad 0)), (1, .int (ii i1))] := hl
  obtain ⟨hW, hWS, hlg⟩ := id hF
  obtain ⟨hw0, hw1, hw2, hw3, hw4, hw5, h8a, h8b, h9a, h9b, h10a, h10b⟩ := id hW
  obtain ⟨hs0, hs1⟩ := id hWS
  obtain ⟨hia, hib⟩ := id hi
  have hst := (cdv_dig hWS.1 hWS.2).1
  refine li_iconst hx hb dX1_count_0 ?_
  refine lv_istore_n (lv' := [(2, .int (ii 0)), (0, .ref (ad 0)), (1, .int (ii i1))]) hx hb dX1_count_1 rfl hl (by decide) rfl (fun ls hl => ?_)
  refine lv_iload_n hx hb dX1_count_2 rfl (lv_at hl 2 rfl) ?_
  rcases (show i1 = 0 ∨ i1 = 1 ∨ i1 = 2 ∨ i1 = 3 ∨ i1 = 4 ∨ i1 = 5 ∨ (i1 < 0 ∨ 5 < i1) by omega) with c3 | c3 | c3 | c3 | c3 | c3 | c3
  · refine lv_tableIn (off := 37) (tgt := 40) hx hb dX1_count_3 (by rw [ii_t hi]; omega) (by rw [ii_t hi]; omega) (by rw [ii_t hi, c3]; rfl) (by decide) ?_
    refine lv_aload_n hx hb dX1_count_40 rfl (lv_at hl 1 rfl) ?_
    refine va_get (D := G) (ci := 0) (v := .ref (ad 1)) (C := RX1) (T := TX1) (N := 21) hx hb hts in_X1 hown hK hP 0 (aD_0 _ _ _ _ _ _ _) rfl 0 (by decide) (hts _ q977) (fun _ h9 => h9) rfl dX1_count_41 ?_
    refine va_get (D := G) (ci := 1) (v := .int (ii (σ 8 0))) (C := RX2) (T := TX2) (N := 13) hx hb hts in_X2 hown hK hP 1 (aD_1 _ _ _ _ _ _ _) rfl 4 (by decide) (hts _ q785) (fun _ h9 => h9) rfl dX1_count_44 ?_
    exact eMi hQ hx hb hr hlk hP hD hS (Nat.le_of_ble_eq_true rfl) (Nat.le_of_ble_eq_true rfl) dX1_count_47 (⟨σ 8 0, (ς 11), (ς 12), κ, rfl, rfl, hT, by omega⟩)
  · refine lv_tableIn (off := 45) (tgt := 48) hx hb dX1_count_3 (by rw [ii_t hi]; omega) (by rw [ii_t hi]; omega) (by rw [ii_t hi, c3]; rfl) (by decide) ?_
    refine lv_aload_n hx hb dX1_count_48 rfl (lv_at hl 1 rfl) ?_
    refine va_get (D := G) (ci := 0) (v := .ref (ad 1)) (C := RX1) (T := TX1) (N := 21) hx hb hts in_X1 hown hK hP 0 (aD_0 _ _ _ _ _ _ _) rfl 0 (by decide) (hts _ q977) (fun _ h9 => h9) rfl dX1_count_49 ?_
    refine va_get (D := G) (ci := 1) (v := .int (ii (σ 9 0))) (C := RX2) (T := TX2) (N := 13) hx hb hts in_X2 hown hK hP 1 (aD_1 _ _ _ _ _ _ _) rfl 6 (by decide) (hts _ q790) (fun _ h9 => h9) rfl dX1_count_52 ?_
    exact eMi hQ hx hb hr hlk hP hD hS (Nat.le_of_ble_eq_true rfl) (Nat.le_of_ble_eq_true rfl) dX1_count_55 (⟨σ 9 0, (ς 11), (ς 12), κ, rfl, rfl, hT, by omega⟩)
  · refine lv_tableIn (off := 53) (tgt := 56) hx hb dX1_count_3 (by rw [ii_t hi]; omega) (by rw [ii_t hi]; omega) (by rw [ii_t hi, c3]; rfl) (by decide) ?_
    refine lv_aload_n hx hb dX1_count_56 rfl (lv_at hl 1 rfl) ?_
    refine va_get (D := G) (ci := 0) (v := .ref (ad 1)) (C := RX1) (T := TX1) (N := 21) hx hb hts in_X1 hown hK hP 0 (aD_0 _ _ _ _ _ _ _) rfl 0 (by decide) (hts _ q977) (fun _ h9 => h9) rfl dX1_count_57 ?_
    refine va_get (D := G) (ci := 1) (v := .int (ii (σ 10 0))) (C := RX2) (T := TX2) (N := 13) hx hb hts in_X2 hown hK hP 1 (aD_1 _ _ _ _ _ _ _) rfl 8 (by decide) (hts _ q801) (fun _ h9 => h9) rfl dX1_count_60 ?_
    exact eMi hQ hx hb hr hlk hP hD hS (Nat.le_of_ble_eq_true rfl) (Nat.le_of_ble_eq_true rfl) dX1_count_63 (⟨σ 10 0, (ς 11), (ς 12), κ, rfl, rfl, hT, by omega⟩)
  · refine lv_tableIn (off := 61) (tgt := 64) hx hb dX1_count_3 (by rw [ii_t hi]; omega) (by rw [ii_t hi]; omega) (by rw [ii_t hi, c3]; rfl) (by decide) ?_
    refine lv_aload_n hx hb dX1_count_64 rfl (lv_at hl 1 rfl) ?_
    refine lv_aload_n hx hb dX1_count_65 rfl (lv_at hl 1 rfl) ?_
    refine va_get (D := G) (ci := 0) (v := .ref (ad 1)) (C := RX1) (T := TX1) (N := 21) hx hb hts in_X1 hown hK hP 0 (aD_0 _ _ _ _ _ _ _) rfl 0 (by decide) (hts _ q977) (fun _ h9 => h9) rfl dX1_count_66 ?_
    refine va_get (D := G) (ci := 1) (v := .ref (ad 8)) (C := RX2) (T := TX2) (N := 13) hx hb hts in_X2 hown hK hP 1 (aD_1 _ _ _ _ _ _ _) rfl 12 (by decide) (hts _ q810) (fun _ h9 => h9) rfl dX1_count_69 ?_
    refine kR (va_runV (As := []) (rest := [.ref (ad 0)]) ⟨hx, hb, hml, hown, hts⟩ (m_code l G ty (wD ad ty hv σ ς κ ++ cs) (fun k => 8 + k) (fun k => ad (8 + k)) (σ 6) (σ 7) ⟨rfl, rfl, rfl⟩) (cwV 0 hts (lw_V q618 q619 q620 q78 q621) rfl rfl rfl (by decide +kernel) ⟨Nat.le_of_ble_eq_true rfl, Nat.le_of_ble_eq_true rfl⟩) (pvR (r := (RX3, TX3, 2)) hK hP hD hX 8 (aD_8 _ _ _ _ _ _ _) rfl) rfl rfl hl.1 rfl (lv_room (Nat.le_of_ble_eq_true rfl)) dX1_count_72 ⟨Nat.le_of_ble_eq_true rfl, Nat.le_of_ble_eq_true rfl⟩) (fun v hv => ?_)
    obtain ⟨z72, rfl, rfl⟩ := hv
    refine kM (va_runV (As := [.int (ii (cdv (σ 6) (σ 7)))]) (rest := []) ⟨hx, hb, hml, hown, hts⟩ ((m_leftIn l G ad ty hv σ ς κ cs (cdv (σ 6) (σ 7)) (show okF σ from hF) (show wfS (ς 11) (ς 12) from hT) (show inSt (cdv (σ 6) (σ 7)) from hst)) H.size) (cwV 1 hts (lw_V q678 q680 qs29 q76 q681) rfl rfl rfl (by decide +kernel) ⟨Nat.le_of_ble_eq_true rfl, Nat.le_of_ble_eq_true rfl⟩) (pvM (r := (RX1, TX1, 21)) hK hP hD hX 0 (aD_0 _ _ _ _ _ _ _) rfl) rfl rfl hl.1 rfl (lv_room (Nat.le_of_ble_eq_true rfl)) dX1_count_75 ⟨Nat.le_of_ble_eq_true rfl, Nat.le_of_ble_eq_true rfl⟩) hD hS hA (fun v ws1 H locs hv hP hD hS => ?_)
    obtain ⟨z75, wT75, qT75, κ75, rfl, rfl, hT75, hz75⟩ := hv
    have hP : va_P G gcl (wD ad ty hv σ (up (up ς 11 wT75) 12 qT75) κ75 ++ cs) H := hP
    have hD : va_D A (wD ad ty hv σ (up (up ς 11 wT75) 12 qT75) κ75 ++ cs) := hD
    have hT75 : wfS wT75 qT75 := hT75
    have hz75 : z75 = lf σ (cdv (σ 6) (σ 7)) := hz75
    exact eMi hQ hx hb hr hlk hP hD hS (Nat.le_of_ble_eq_true rfl) (Nat.le_of_ble_eq_true rfl) dX1_count_78 (⟨z75, wT75, qT75, κ75, rfl, rfl, hT75, by first | omega | exact .inr (.inr (.inr (.inl ⟨c3, hz75⟩)))⟩)
  · refine lv_tableIn (off := 76) (tgt := 79) hx hb dX1_count_3 (by rw [ii_t hi]; omega) (by rw [ii_t hi]; omega) (by rw [ii_t hi, c3]; rfl) (by decide) ?_
    refine lv_aload_n hx hb dX1_count_79 rfl (lv_at hl 1 rfl) ?_
    refine va_get (D := G) (ci := 0) (v := .ref (ad 1)) (C := RX1) (T := TX1) (N := 21) hx hb hts in_X1 hown hK hP 0 (aD_0 _ _ _ _ _ _ _) rfl 0 (by decide) (hts _ q977) (fun _ h9 => h9) rfl dX1_count_80 ?_
    refine va_get (D := G) (ci := 1) (v := .int (ii (σ 13 0))) (C := RX2) (T := TX2) (N := 13) hx hb hts in_X2 hown hK hP 1 (aD_1 _ _ _ _ _ _ _) rfl 11 (by decide) (hts _ q808) (fun _ h9 => h9) rfl dX1_count_83 ?_
    exact eMi hQ hx hb hr hlk hP hD hS (Nat.le_of_ble_eq_true rfl) (Nat.le_of_ble_eq_true rfl) dX1_count_86 (⟨σ 13 0, (ς 11), (ς 12), κ, rfl, rfl, hT, by omega⟩)
  · refine lv_tableIn (off := 84) (tgt := 87) hx hb dX1_count_3 (by rw [ii_t hi]; omega) (by rw [ii_t hi]; omega) (by rw [ii_t hi, c3]; rfl) (by decide) ?_
    refine li_iconst hx hb dX1_count_87 ?_
    refine lv_istore_n (lv' := [(3, .int (ii 0)), (2, .int (ii 0)), (0, .ref (ad 0)), (1, .int (ii i1))]) hx hb dX1_count_88 rfl hl (by decide) rfl (fun ls hl => ?_)
    have L89 : ∀ (n : Nat) (k : Int) (sm : Int) (_ : 0 ≤ k) (_ : k ≤ σ 8 0 - 1 ∨ k = 0) (_ : sm = fs (σ 2) 0 k) (_ : (σ 8 0 - k).toNat < n) (H : Heap) (locs : List Loc) (_ : va_P G gcl (wD ad ty hv σ ς κ ++ cs) H) (_ : va_D A (wD ad ty hv σ ς κ ++ cs)) (_ : va_S A s.heap H locs) (ls : Array Slot), lv_has ls 4 [(3, .int (ii k)), (2, .int (ii sm)), (0, .ref (ad 0)), (1, .int (ii i1))] → W p l e (rm4 2 0 0 46) s m args below meth c H locs 0 0 Q (F0 m 89 ls []) := by
      intro n
      induction n with
      | zero =>
        intro k sm hk0 hk1 hsm hm
        exact absurd hm (Nat.not_lt_zero _)
      | succ n ih =>
        intro k sm hk0 hk1 hsm hm H locs hP hD hS ls hl
        refine lv_iload_n hx hb dX1_count_89 rfl (lv_at hl 0 rfl) ?_
        refine lv_aload_n hx hb dX1_count_90 rfl (lv_at hl 2 rfl) ?_
        refine va_get (D := G) (ci := 0) (v := .ref (ad 1)) (C := RX1) (T := TX1) (N := 21) hx hb hts in_X1 hown hK hP 0 (aD_0 _ _ _ _ _ _ _) rfl 0 (by decide) (hts _ q977) (fun _ h9 => h9) rfl dX1_count_91 ?_
        refine kR (va_runV (As := []) (rest := [.int (ii k)]) ⟨hx, hb, hml, hown, hts⟩ (m_ground l G ty (wD ad ty hv σ ς κ ++ cs) (fun k => 1 + k) (fun k => ad (1 + k)) σ  ⟨rfl, rfl, rfl, rfl, rfl, rfl, rfl⟩ (hW)) (cwV 0 hts (lw_V q329 q330 q331 q77 q332) rfl rfl rfl (by decide +kernel) ⟨Nat.le_of_ble_eq_true rfl, Nat.le_of_ble_eq_true rfl⟩) (pvR (r := (RX2, TX2, 13)) hK hP hD hX 1 (aD_1 _ _ _ _ _ _ _) rfl) rfl rfl hl.1 rfl (lv_room (Nat.le_of_ble_eq_true rfl)) dX1_count_94 ⟨Nat.le_of_ble_eq_true rfl, Nat.le_of_ble_eq_true rfl⟩) (fun v hv => ?_)
        obtain ⟨z94, rfl, h94⟩ := hv
        refine li_icmp_ge (tgt := 118) hx hb ⟨by omega, by omega⟩ ⟨by omega, by omega⟩ dX1_count_97 (by decide) (fun c97 => ?_) (fun c97 => ?_)
        · refine lv_iload_n hx hb dX1_count_118 rfl (lv_at hl 1 rfl) ?_
          exact eMi hQ hx hb hr hlk hP hD hS (Nat.le_of_ble_eq_true rfl) (Nat.le_of_ble_eq_true rfl) dX1_count_119 (⟨sm, (ς 11), (ς 12), κ, rfl, rfl, hT, .inr (.inr (.inr (.inr (.inr (.inl ⟨c3, by rw [hsm]; exact fs_end (by omega) hk0⟩)))))⟩)
        · refine lv_iload_n hx hb dX1_count_100 rfl (lv_at hl 1 rfl) ?_
          refine lv_aload_n hx hb dX1_count_101 rfl (lv_at hl 2 rfl) ?_
          refine va_get (D := G) (ci := 0) (v := .ref (ad 1)) (C := RX1) (T := TX1) (N := 21) hx hb hts in_X1 hown hK hP 0 (aD_0 _ _ _ _ _ _ _) rfl 0 (by decide) (hts _ q977) (fun _ h9 => h9) rfl dX1_count_102 ?_
          refine va_get (D := G) (ci := 1) (v := .ref (ad 4)) (C := RX2) (T := TX2) (N := 13) hx hb hts in_X2 hown hK hP 1 (aD_1 _ _ _ _ _ _ _) rfl 2 (by decide) (hts _ q780) (fun _ h9 => h9) rfl dX1_count_105 ?_
          refine lv_iload_n hx hb dX1_count_108 rfl (lv_at hl 0 rfl) ?_
          refine li_iald (g := (σ 2)) hx hb hK hP 4 0 (aD_4 _ _ _ _ _ _ _) rfl (by omega) (by omega) (by decide) dX1_count_109 ?_
          have r110 := hw2 k
          refine li_add hx hb dX1_count_110 ?_
          refine lv_istore_n (lv' := [(2, .int (ii (sm + (σ 2 k)))), (3, .int (ii k)), (0, .ref (ad 0)), (1, .int (ii i1))]) hx hb dX1_count_111 rfl hl (by decide) rfl (fun ls hl => ?_)
          refine li_iinc (a := k) (lv' := [(3, .int (ii (k + 1))), (2, .int (ii (sm + (σ 2 k)))), (0, .ref (ad 0)), (1, .int (ii i1))]) hx hb dX1_count_112 hl (k := 1) rfl (by decide) rfl (fun ls hl => ?_)
          refine lv_goto (tgt := 89) hx hb dX1_count_115 (by decide) ?_
          exact ih (k + 1) (sm + (σ 2 k)) (by omega) (by omega) (by rw [hsm]; exact (fs_s _ hk0).symm) (by omega) H locs hP hD hS ls (lv_sub hl [0, 1, 2, 3] rfl)
    exact L89 _ 0 0 (by omega) (.inr rfl) ((fs_0 _ _).symm) (Nat.lt_succ_self _) H locs hP hD hS ls (lv_sub hl [0, 1, 2, 3] rfl)
  · refine lv_tableOut (tgt := 120) hx hb dX1_count_3 (by rw [ii_t hi]; omega) (by decide) ?_
    refine li_iconst hx hb dX1_count_120 ?_
    exact eMi hQ hx hb hr hlk hP hD hS (Nat.le_of_ble_eq_true rfl) (Nat.le_of_ble_eq_true rfl) dX1_count_121 (⟨-1, (ς 11), (ς 12), κ, rfl, rfl, hT, by omega⟩)
set_option maxHeartbeats 4000000 in
theorem m_farM2 (l : Launch) (G : va_G) (am : Nat → Nat) (ty : Nat → ClassId) (τ ρ : mem) (cs : va_W) (a1 : Int) (b1 : Int) (F : mem) (hF : okF F) (hSm : Sim F τ) (hab : 0 ≤ a1 ∧ -1 ≤ b1 ∧ b1 ≤ F 8 0 ∧ a1 ≤ 5) : cR l yX12_farFrom (ws_ yX12_farFrom cX12_farFrom 5 (some .int)) (rm4 0 0 0 0) G ty (wM am ty τ ρ ++ cs) [.ref (am 0), .int (ii a1), .int (ii b1)] (fun r => r = some (.int (ii (fs (F 2) a1 b1))) ∧ (0 ≤ fs (F 2) a1 b1 ∧ fs (F 2) a1 b1 ≤ 1000)) := by
  refine cR.of (by decide) (Nat.le_of_ble_eq_true rfl) ?_
  intro p e s m args below meth c Q hQ hx hb hr hml hown hlk hts hK hP hD hX ls hl
  have hl : lv_has ls 5 [(0, .ref (am 0)), (1, .int (ii a1)), (2, .int (ii b1))] := hl
  obtain ⟨hW, hWS, hlg⟩ := id hF
  obtain ⟨hw0, hw1, hw2, hw3, hw4, hw5, h8a, h8b, h9a, h9b, h10a, h10b⟩ := id hW
  obtain ⟨mL, mP, mR, mC, mK, mM, mA, mB, mD⟩ := id hSm
  obtain ⟨ha0, hb0, hb1, ha1⟩ := id hab
  refine li_iconst hx hb dX12_farFrom_0 ?_
  refine lv_istore_n (lv' := [(3, .int (ii 0)), (0, .ref (am 0)), (1, .int (ii a1)), (2, .int (ii b1))]) hx hb dX12_farFrom_1 rfl hl (by decide) rfl (fun ls hl => ?_)
  refine lv_iload_n hx hb dX12_farFrom_2 rfl (lv_at hl 2 rfl) ?_
  refine lv_istore (lv' := [(4, .int (ii a1)), (3, .int (ii 0)), (0, .ref (am 0)), (1, .int (ii a1)), (2, .int (ii b1))]) hx hb dX12_farFrom_3 hl (by decide) rfl (fun ls hl => ?_)
  have L5 : ∀ (n : Nat) (k : Int) (sm : Int) (_ : a1 ≤ k) (_ : k ≤ b1 ∨ k = a1) (_ : sm = fs (F 2) a1 k) (_ : (b1 - k).toNat < n) (ls : Array Slot), lv_has ls 5 [(4, .int (ii k)), (3, .int (ii sm)), (0, .ref (am 0)), (1, .int (ii a1)), (2, .int (ii b1))] → W p l e (rm4 0 0 0 0) s m args below meth c s.heap [] 0 0 Q (F0 m 5 ls []) := by
    intro n
    induction n with
    | zero =>
      intro k sm hk1 hk2 hk3 hm
      exact absurd hm (Nat.not_lt_zero _)
    | succ n ih =>
      intro k sm hk1 hk2 hk3 hm ls hl
      refine lv_iload hx hb dX12_farFrom_5 (lv_at hl 0 rfl) ?_
      refine lv_iload_n hx hb dX12_farFrom_7 rfl (lv_at hl 4 rfl) ?_
      refine li_icmp_ge (tgt := 27) hx hb ⟨by omega, by omega⟩ ⟨by omega, by omega⟩ dX12_farFrom_8 (by decide) (fun c8 => ?_) (fun c8 => ?_)
      · refine lv_iload_n hx hb dX12_farFrom_27 rfl (lv_at hl 1 rfl) ?_
        exact eRi hQ hx hb hr hlk dX12_farFrom_28 (⟨by rw [hk3, fs_end (show k = b1 ∨ (k = a1 ∧ b1 ≤ a1) by omega) hk1], fs_le (F 2) hw2 ha0 (by omega)⟩)
      · refine lv_iload_n hx hb dX12_farFrom_11 rfl (lv_at hl 1 rfl) ?_
        refine lv_aload_n hx hb dX12_farFrom_12 rfl (lv_at hl 2 rfl) ?_
        refine va_get (D := G) (ci := 11) (v := .ref (am 3)) (C := RX12) (T := TX12) (N := 52) hx hb hts in_X12 hown hK hP 0 (aM_0 _ _ _ _ _) rfl 3 (by decide) (hts _ q1268) (fun _ h9 => h9) rfl dX12_farFrom_13 ?_
        refine lv_iload hx hb dX12_farFrom_16 (lv_at hl 0 rfl) ?_
        refine li_iald (g := (τ 3)) hx hb hK hP 3 0 (aM_3 _ _ _ _ _) rfl (by omega) (by omega) (by decide) dX12_farFrom_18 ?_
        refine li_add hx hb dX12_farFrom_19 ?_
        refine lv_istore_n (lv' := [(3, .int (ii (sm + (τ 3 k)))), (4, .int (ii k)), (0, .ref (am 0)), (1, .int (ii a1)), (2, .int (ii b1))]) hx hb dX12_farFrom_20 rfl hl (by decide) rfl (fun ls hl => ?_)
        refine li_iinc (a := k) (lv' := [(4, .int (ii (k + 1))), (3, .int (ii (sm + (τ 3 k)))), (0, .ref (am 0)), (1, .int (ii a1)), (2, .int (ii b1))]) hx hb dX12_farFrom_21 hl (k := 1) rfl (by decide) rfl (fun ls hl => ?_)
        refine lv_goto (tgt := 5) hx hb dX12_farFrom_24 (by decide) ?_
        exact ih (k + 1) (sm + (τ 3 k)) (by omega) (by omega) (by rw [hk3, (mA k (by omega) (by omega)).2.2.1]; exact (fs_s _ hk1).symm) (by omega) ls (lv_sub hl [0, 1, 2, 3, 4] rfl)
  exact L5 _ a1 0 (Int.le_refl _) (.inr rfl) ((fs_0 _ _).symm) (Nat.lt_succ_self _) ls (lv_sub hl [0, 1, 2, 3, 4] rfl)
set_option maxHeartbeats 4000000 in
theorem m_countM (l : Launch) (G : va_G) (am : Nat → Nat) (ty : Nat → ClassId) (τ ρ : mem) (cs : va_W) (i1 : Int) (F : mem) (hF : okF F) (hSm : Sim F τ) (hSt : wfS (ρ 27) (ρ 28)) (hZ : zerF F) (hi : rg i1) (hmi : 0 ≤ F 13 0 ∧ F 13 0 ≤ 1000000) : cM l yX12_count (ws_ yX12_count cX12_count 2 (some .int)) (rm4 2 0 0 44) G ty (wM am ty τ ρ ++ cs) [.ref (am 0), .int (ii i1)] 0 0 (fun r W' => ∃ (z : Int) (wT : Int → Int) (qT : Int → Int), r = some (.int (ii z)) ∧ W' = wM am ty τ (up (up (up ρ 14 (sc (0))) 27 wT) 28 qT) ++ cs ∧ (wfS wT qT) ∧ (((i1 = 0 ∧ z = F 8 0) ∨ (i1 = 1 ∧ z = F 9 0) ∨ (i1 = 2 ∧ z = F 10 0) ∨ (i1 = 3 ∧ z = lf F (cdv (F 6) (F 7))) ∨ (i1 = 4 ∧ z = F 13 0) ∨ (i1 = 5 ∧ z = fs (F 2) 0 (F 8 0 - 1)) ∨ ((i1 < 0 ∨ 5 < i1) ∧ z = -1)))) := by
  refine cM.of (by decide) (Nat.le_of_ble_eq_true rfl) ?_
  intro p e s m args below meth c A Q H locs hQ hx hb hr hml hown hlk hname hts hK hP hD hS hA hX ls hl
  have hl : lv_has ls 2 [(0, .ref (am 0)), (1, .int (ii i1))] := hl
  obtain ⟨hW, hWS, hlg⟩ := id hF
  obtain ⟨hw0, hw1, hw2, hw3, hw4, hw5, h8a, h8b, h9a, h9b, h10a, h10b⟩ := id hW
  obtain ⟨mL, mP, mR, mC, mK, mM, mA, mB, mD⟩ := id hSm
  obtain ⟨hia, hib⟩ := id hi
  have hst := (cdv_dig hWS.1 hWS.2).1
  refine lv_aload_n hx hb dX12_count_0 rfl (lv_at hl 0 rfl) ?_
  refine li_iconst hx hb dX12_count_1 ?_
  refine va_put (D := G) (ci := 11) (v := .int (ii 0)) (ty := .int) (C := RX12) (T := TX12) (N := 52) hx hb hts in_X12 tyX12 tyX12_ok nmX12 hown hK hP hD hS 0 (aM_0 _ _ _ _ _) rfl 14 (by decide) (hts _ q1279) (fun _ h9 => h9) rfl (tyX12_ok 14 (by decide)) rfl rfl (Nat.le_of_ble_eq_true rfl) dX12_count_2 (fun H locs hP hD hS => ?_)
  have hP : va_P G gcl (wM am ty τ (up ρ 14 (sc (0))) ++ cs) H := hP
  have hD : va_D A (wM am ty τ (up ρ 14 (sc (0))) ++ cs) := hD
  refine lv_iload_n hx hb dX12_count_5 rfl (lv_at hl 1 rfl) ?_
  rcases (show i1 = 0 ∨ i1 = 1 ∨ i1 = 2 ∨ i1 = 3 ∨ i1 = 4 ∨ i1 = 5 ∨ (i1 < 0 ∨ 5 < i1) by omega) with c6 | c6 | c6 | c6 | c6 | c6 | c6
  · refine lv_tableIn (off := 38) (tgt := 44) hx hb dX12_count_6 (by rw [ii_t hi]; omega) (by rw [ii_t hi]; omega) (by rw [ii_t hi, c6]; rfl) (by decide) ?_
    refine lv_aload_n hx hb dX12_count_44 rfl (lv_at hl 0 rfl) ?_
    refine va_get (D := G) (ci := 11) (v := .int (ii (τ 0 0))) (C := RX12) (T := TX12) (N := 52) hx hb hts in_X12 hown hK hP 0 (aM_0 _ _ _ _ _) rfl 0 (by decide) (hts _ q1265) (fun _ h9 => h9) rfl dX12_count_45 ?_
    exact eMi hQ hx hb hr hlk hP hD hS (Nat.le_of_ble_eq_true rfl) (Nat.le_of_ble_eq_true rfl) dX12_count_48 (⟨τ 0 0, (ρ 27), (ρ 28), rfl, rfl, hSt, by first | omega | exact .inr (.inr (.inr (.inl ⟨c6, hz64⟩))) | exact .inr (.inr (.inr (.inr (.inr (.inl ⟨c6, by rw [mL]⟩)))))⟩)
  · refine lv_tableIn (off := 43) (tgt := 49) hx hb dX12_count_6 (by rw [ii_t hi]; omega) (by rw [ii_t hi]; omega) (by rw [ii_t hi, c6]; rfl) (by decide) ?_
    refine lv_aload_n hx hb dX12_count_49 rfl (lv_at hl 0 rfl) ?_
    refine va_get (D := G) (ci := 11) (v := .int (ii (τ 5 0))) (C := RX12) (T := TX12) (N := 52) hx hb hts in_X12 hown hK hP 0 (aM_0 _ _ _ _ _) rfl 5 (by decide) (hts _ q1270) (fun _ h9 => h9) rfl dX12_count_50 ?_
    exact eMi hQ hx hb hr hlk hP hD hS (Nat.le_of_ble_eq_true rfl) (Nat.le_of_ble_eq_true rfl) dX12_count_53 (⟨τ 5 0, (ρ 27), (ρ 28), rfl, rfl, hSt, by first | omega | exact .inr (.inr (.inr (.inl ⟨c6, hz64⟩))) | exact .inr (.inr (.inr (.inr (.inr (.inl ⟨c6, by rw [mL]⟩)))))⟩)
  · refine lv_tableIn (off := 48) (tgt := 54) hx hb dX12_count_6 (by rw [ii_t hi]; omega) (by rw [ii_t hi]; omega) (by rw [ii_t hi, c6]; rfl) (by decide) ?_
    refine lv_aload_n hx hb dX12_count_54 rfl (lv_at hl 0 rfl) ?_
    refine va_get (D := G) (ci := 11) (v := .int (ii (τ 7 0))) (C := RX12) (T := TX12) (N := 52) hx hb hts in_X12 hown hK hP 0 (aM_0 _ _ _ _ _) rfl 7 (by decide) (hts _ q1272) (fun _ h9 => h9) rfl dX12_count_55 ?_
    exact eMi hQ hx hb hr hlk hP hD hS (Nat.le_of_ble_eq_true rfl) (Nat.le_of_ble_eq_true rfl) dX12_count_58 (⟨τ 7 0, (ρ 27), (ρ 28), rfl, rfl, hSt, by first | omega | exact .inr (.inr (.inr (.inl ⟨c6, hz64⟩))) | exact .inr (.inr (.inr (.inr (.inr (.inl ⟨c6, by rw [mL]⟩)))))⟩)
  · refine lv_tableIn (off := 53) (tgt := 59) hx hb dX12_count_6 (by rw [ii_t hi]; omega) (by rw [ii_t hi]; omega) (by rw [ii_t hi, c6]; rfl) (by decide) ?_
    refine lv_aload_n hx hb dX12_count_59 rfl (lv_at hl 0 rfl) ?_
    refine lv_aload_n hx hb dX12_count_60 rfl (lv_at hl 0 rfl) ?_
    refine kR (va_runV (As := []) (rest := [.ref (am 0)]) ⟨hx, hb, hml, hown, hts⟩ (m_stateNowM l G am ty τ (up ρ 14 (sc (0))) cs _ (show okF F from hF) (show Sim F τ from hSm) (show zerF F from hZ)) (cwV 0 hts (lw_V q1514 q1516 qs46 q87 q1517) rfl rfl rfl (by decide +kernel) ⟨Nat.le_of_ble_eq_true rfl, Nat.le_of_ble_eq_true rfl⟩) (pvR (r := (RX12, TX12, 52)) hK hP hD hX 0 (aM_0 _ _ _ _ _) rfl) rfl rfl hl.1 rfl (lv_room (Nat.le_of_ble_eq_true rfl)) dX12_count_61 ⟨Nat.le_of_ble_eq_true rfl, Nat.le_of_ble_eq_true rfl⟩) (fun v hv => ?_)
    have hv := hv
    subst hv
    refine kM (va_runV (As := [.int (ii (cdv (F 6) (F 7)))]) (rest := []) ⟨hx, hb, hml, hown, hts⟩ ((m_leftInM l G am ty τ (up ρ 14 (sc (0))) cs (cdv (F 6) (F 7)) _ (show okF F from hF) (show Sim F τ from hSm) (show wfS (ρ 27) (ρ 28) from hSt) (show inSt (cdv (F 6) (F 7)) from hst)) H.size) (cwV 1 hts (lw_V q1624 q1626 qs65 q87 q1627) rfl rfl rfl (by decide +kernel) ⟨Nat.le_of_ble_eq_true rfl, Nat.le_of_ble_eq_true rfl⟩) (pvM (r := (RX12, TX12, 52)) hK hP hD hX 0 (aM_0 _ _ _ _ _) rfl) rfl rfl hl.1 rfl (lv_room (Nat.le_of_ble_eq_true rfl)) dX12_count_64 ⟨Nat.le_of_ble_eq_true rfl, Nat.le_of_ble_eq_true rfl⟩) hD hS hA (fun v ws1 H locs hv hP hD hS => ?_)
    obtain ⟨z64, wT64, qT64, rfl, rfl, hSt64, hz64⟩ := hv
    have hP : va_P G gcl (wM am ty τ (up (up (up ρ 14 (sc (0))) 27 wT64) 28 qT64) ++ cs) H := hP
    have hD : va_D A (wM am ty τ (up (up (up ρ 14 (sc (0))) 27 wT64) 28 qT64) ++ cs) := hD
    have hSt64 : wfS wT64 qT64 := hSt64
    have hz64 : z64 = lf F (cdv (F 6) (F 7)) := hz64
    exact eMi hQ hx hb hr hlk hP hD hS (Nat.le_of_ble_eq_true rfl) (Nat.le_of_ble_eq_true rfl) dX12_count_67 (⟨z64, wT64, qT64, rfl, rfl, hSt64, by first | omega | exact .inr (.inr (.inr (.inl ⟨c6, hz64⟩))) | exact .inr (.inr (.inr (.inr (.inr (.inl ⟨c6, by rw [mL]⟩)))))⟩)
  · refine lv_tableIn (off := 62) (tgt := 68) hx hb dX12_count_6 (by rw [ii_t hi]; omega) (by rw [ii_t hi]; omega) (by rw [ii_t hi, c6]; rfl) (by decide) ?_
    refine lv_aload_n hx hb dX12_count_68 rfl (lv_at hl 0 rfl) ?_
    refine va_get (D := G) (ci := 11) (v := .int (ii (τ 13 0))) (C := RX12) (T := TX12) (N := 52) hx hb hts in_X12 hown hK hP 0 (aM_0 _ _ _ _ _) rfl 13 (by decide) (hts _ q1278) (fun _ h9 => h9) rfl dX12_count_69 ?_
    exact eMi hQ hx hb hr hlk hP hD hS (Nat.le_of_ble_eq_true rfl) (Nat.le_of_ble_eq_true rfl) dX12_count_72 (⟨τ 13 0, (ρ 27), (ρ 28), rfl, rfl, hSt, by first | omega | exact .inr (.inr (.inr (.inl ⟨c6, hz64⟩))) | exact .inr (.inr (.inr (.inr (.inr (.inl ⟨c6, by rw [mL]⟩)))))⟩)
  · refine lv_tableIn (off := 67) (tgt := 73) hx hb dX12_count_6 (by rw [ii_t hi]; omega) (by rw [ii_t hi]; omega) (by rw [ii_t hi, c6]; rfl) (by decide) ?_
    refine lv_aload_n hx hb dX12_count_73 rfl (lv_at hl 0 rfl) ?_
    refine li_iconst hx hb dX12_count_74 ?_
    refine lv_aload_n hx hb dX12_count_75 rfl (lv_at hl 0 rfl) ?_
    refine va_get (D := G) (ci := 11) (v := .int (ii (τ 0 0))) (C := RX12) (T := TX12) (N := 52) hx hb hts in_X12 hown hK hP 0 (aM_0 _ _ _ _ _) rfl 0 (by decide) (hts _ q1265) (fun _ h9 => h9) rfl dX12_count_76 ?_
    refine li_iconst hx hb dX12_count_79 ?_
    refine li_sub hx hb dX12_count_80 ?_
    refine kR (va_runV (As := [.int (ii 0), .int (ii (τ 0 0 - 1))]) (rest := []) ⟨hx, hb, hml, hown, hts⟩ (m_farM2 l G am ty τ (up ρ 14 (sc (0))) cs 0 (τ 0 0 - 1) _ (show okF F from hF) (show Sim F τ from hSm) (show 0 ≤ 0 ∧ -1 ≤ (τ 0 0 - 1) ∧ (τ 0 0 - 1) ≤ F 8 0 ∧ 0 ≤ 5 from ⟨by decide, by omega, by omega, by decide⟩)) (cwV 2 hts (lw_V q1502 q1504 qs45 q87 q1505) rfl rfl rfl (by decide +kernel) ⟨Nat.le_of_ble_eq_true rfl, Nat.le_of_ble_eq_true rfl⟩) (pvR (r := (RX12, TX12, 52)) hK hP hD hX 0 (aM_0 _ _ _ _ _) rfl) rfl rfl hl.1 rfl (lv_room (Nat.le_of_ble_eq_true rfl)) dX12_count_81 ⟨Nat.le_of_ble_eq_true rfl, Nat.le_of_ble_eq_true rfl⟩) (fun v hv => ?_)
    obtain ⟨rfl, hzb81⟩ := hv
    have hzb81 : 0 ≤ fs (F 2) 0 (τ 0 0 - 1) ∧ fs (F 2) 0 (τ 0 0 - 1) ≤ 1000 := hzb81
    exact eMi hQ hx hb hr hlk hP hD hS (Nat.le_of_ble_eq_true rfl) (Nat.le_of_ble_eq_true rfl) dX12_count_84 (⟨fs (F 2) 0 (τ 0 0 - 1), (ρ 27), (ρ 28), rfl, rfl, hSt, by first | omega | exact .inr (.inr (.inr (.inl ⟨c6, hz64⟩))) | exact .inr (.inr (.inr (.inr (.inr (.inl ⟨c6, by rw [mL]⟩)))))⟩)
  · refine lv_tableOut (tgt := 85) hx hb dX12_count_6 (by rw [ii_t hi]; omega) (by decide) ?_
    refine li_iconst hx hb dX12_count_85 ?_
    exact eMi hQ hx hb hr hlk hP hD hS (Nat.le_of_ble_eq_true rfl) (Nat.le_of_ble_eq_true rfl) dX12_count_86 (⟨-1, (ρ 27), (ρ 28), rfl, rfl, hSt, by first | omega | exact .inr (.inr (.inr (.inl ⟨c6, hz64⟩))) | exact .inr (.inr (.inr (.inr (.inr (.inl ⟨c6, by rw [mL]⟩)))))⟩)
