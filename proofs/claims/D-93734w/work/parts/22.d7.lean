/-! DownRope: traps, last, meets, surest, chance (written by gen/d7.py) -/
set_option maxRecDepth 100000
theorem ii_max {a b : Int} (ha : rg a) (hb : rg b) : (if ii a < ii b then ii b else ii a) = ii (upper a b) := by
  unfold upper
  by_cases h : a < b
  · rw [if_pos h, if_pos ((ii_lt ha hb).mpr h)]
  · rw [if_neg h, if_neg (fun q => h ((ii_lt ha hb).mp q))]
theorem upper_or2 {P : Int → Prop} {V : Int → Int} {b m : Int} (h : b = 0 ∨ ∃ x, P x ∧ b = V x) (hm : P m) : upper b (V m) = 0 ∨ ∃ x, P x ∧ upper b (V m) = V x := by
  by_cases q : b < V m
  · exact .inr ⟨m, hm, by unfold upper; omega⟩
  · rcases h with h | ⟨x, h1, h2⟩
    · exact .inl (by unfold upper; omega)
    · exact .inr ⟨x, h1, by unfold upper; omega⟩
set_option maxHeartbeats 4000000 in
theorem m_traps (l : Launch) (G : va_G) (ad : Nat → Nat) (ty : Nat → ClassId) (hv : Nat → Option Nat) (σ ς κ : mem) (cs : va_W)   (hF : okF σ) (hT : wfS (ς 11) (ς 12)) : cM l yX1_traps (ws_ yX1_traps cX1_traps 3 (some .int)) (rm4 7 0 0 168) G ty (wD ad ty hv σ ς κ ++ cs) [.ref (ad 0)] 0 0 (fun r W' => ∃ (z : Int) (ga : Int → Int) (gb : Int → Int) (na : Int) (la : Int → Int) (me : Int → Int) (n8 : Int) (qd : Int → Int) (qu : Int → Int) (wT : Int → Int) (qT : Int → Int) (gd : Int → Int) (κ' : mem), r = some (.int (ii z)) ∧ W' = wD ad ty hv σ (up (up (up (up (up (up (up (up (up (up (up ς 0 ga) 1 gb) 2 (sc (na))) 6 la) 7 me) 8 (sc (n8))) 9 qd) 10 qu) 11 wT) 12 qT) 16 gd) κ' ++ cs ∧ (wfS wT qT) ∧ (IsTraps σ (cdv (σ 6) (σ 7)) z)) := by
  refine cM.of (by decide) (Nat.le_of_ble_eq_true rfl) ?_
  intro p e s m args below meth c A Q H locs hQ hx hb hr hml hown hlk hname hts hK hP hD hS hA hX ls hl
  have hl : lv_has ls 3 [(0, .ref (ad 0))] := hl
  have hW : wfF σ := hF.1
  refine lv_aload_n hx hb dX1_traps_0 rfl (lv_at hl 0 rfl) ?_
  refine kM (va_runV (As := []) (rest := []) ⟨hx, hb, hml, hown, hts⟩ ((m_finds l G ad ty hv σ ς κ cs (show okF σ from hF) (show wfS (ς 11) (ς 12) from hT)) H.size) (cwV 0 hts (lw_V q613 q615 qs23 q76 q616) rfl rfl rfl (by decide +kernel) ⟨Nat.le_of_ble_eq_true rfl, Nat.le_of_ble_eq_true rfl⟩) (pvM (r := (RX1, TX1, 21)) hK hP hD hX 0 (aD_0 _ _ _ _ _ _ _) rfl) rfl rfl hl.1 rfl (lv_room (Nat.le_of_ble_eq_true rfl)) dX1_traps_1 ⟨Nat.le_of_ble_eq_true rfl, Nat.le_of_ble_eq_true rfl⟩) hD hS hA (fun v ws1 H locs hv hP hD hS => ?_)
  obtain ⟨ga1, gb1, na1, la1, me1, n81, qd1, qu1, wT1, qT1, κ1, rfl, rfl, hT1, hSo1⟩ := hv
  have hP : va_P G gcl (wD ad ty hv σ (up (up (up (up (up (up (up (up (up (up ς 0 ga1) 1 gb1) 2 (sc (na1))) 6 la1) 7 me1) 8 (sc (n81))) 9 qd1) 10 qu1) 11 wT1) 12 qT1) κ1 ++ cs) H := hP
  have hD : va_D A (wD ad ty hv σ (up (up (up (up (up (up (up (up (up (up ς 0 ga1) 1 gb1) 2 (sc (na1))) 6 la1) 7 me1) 8 (sc (n81))) 9 qd1) 10 qu1) 11 wT1) 12 qT1) κ1 ++ cs) := hD
  have hT1 : wfS wT1 qT1 := hT1
  have hSo1 : Sought (EF σ) (cdv (σ 6) (σ 7)) la1 me1 n81 := hSo1
  refine lv_aload_n hx hb dX1_traps_4 rfl (lv_at hl 0 rfl) ?_
  refine li_iconst hx hb dX1_traps_5 ?_
  refine kM (va_runV (As := [.int (ii (-1))]) (rest := []) ⟨hx, hb, hml, hown, hts⟩ ((m_findGood l G ad ty hv σ (up (up (up (up (up (up (up (up (up (up ς 0 ga1) 1 gb1) 2 (sc (na1))) 6 la1) 7 me1) 8 (sc (n81))) 9 qd1) 10 qu1) 11 wT1) 12 qT1) κ1 cs (-1) (show okF σ from hF) (show wfS wT1 qT1 from hT1) (show Sought (EF σ) (cdv (σ 6) (σ 7)) la1 me1 n81 from hSo1) (show -1 ≤ (-1) ∧ (-1) ≤ 2 from ⟨by decide, by decide⟩)) H.size) (cwV 1 hts (lw_V q690 q692 qs30 q76 q693) rfl rfl rfl (by decide +kernel) ⟨Nat.le_of_ble_eq_true rfl, Nat.le_of_ble_eq_true rfl⟩) (pvM (r := (RX1, TX1, 21)) hK hP hD hX 0 (aD_0 _ _ _ _ _ _ _) rfl) rfl rfl hl.1 rfl (lv_room (Nat.le_of_ble_eq_true rfl)) dX1_traps_6 ⟨Nat.le_of_ble_eq_true rfl, Nat.le_of_ble_eq_true rfl⟩) hD hS hA (fun v ws1 H locs hv hP hD hS => ?_)
  obtain ⟨ga6, gb6, na6, gd6, wT6, qT6, κ6, rfl, rfl, hT6, hgb6, hgd6⟩ := hv
  have hP : va_P G gcl (wD ad ty hv σ (up (up (up (up (up (up (up (up (up (up (up ς 6 la1) 7 me1) 8 (sc (n81))) 9 qd1) 10 qu1) 0 ga6) 1 gb6) 2 (sc (na6))) 16 gd6) 11 wT6) 12 qT6) κ6 ++ cs) H := hP
  have hD : va_D A (wD ad ty hv σ (up (up (up (up (up (up (up (up (up (up (up ς 6 la1) 7 me1) 8 (sc (n81))) 9 qd1) 10 qu1) 0 ga6) 1 gb6) 2 (sc (na6))) 16 gd6) 11 wT6) 12 qT6) κ6 ++ cs) := hD
  have hT6 : wfS wT6 qT6 := hT6
  have hgb6 : ∀ c, inSt c → la1 c ≠ FARc → gd6 c = 0 ∨ gd6 c = 1 := hgb6
  have hgd6 : ∀ c, inSt c → la1 c ≠ FARc → (gd6 c = 1 ↔ LeadA σ (-1) c) := hgd6
  refine li_iconst hx hb dX1_traps_9 ?_
  refine lv_istore_n (lv' := [(1, .int (ii 0)), (0, .ref (ad 0))]) hx hb dX1_traps_10 rfl hl (by decide) rfl (fun ls hl => ?_)
  refine li_iconst hx hb dX1_traps_11 ?_
  refine lv_istore_n (lv' := [(2, .int (ii 0)), (1, .int (ii 0)), (0, .ref (ad 0))]) hx hb dX1_traps_12 rfl hl (by decide) rfl (fun ls hl => ?_)
  have L13 : ∀ (n : Nat) (k1 : Int) (t1 : Int) (_ : 0 ≤ k1) (_ : k1 ≤ n81) (_ : t1 = cn (fun i => ¬ LeadA σ (-1) (me1 i)) k1) (_ : (n81 - k1).toNat < n) (H : Heap) (locs : List Loc) (_ : va_P G gcl (wD ad ty hv σ (up (up (up (up (up (up (up (up (up (up (up ς 6 la1) 7 me1) 8 (sc (n81))) 9 qd1) 10 qu1) 0 ga6) 1 gb6) 2 (sc (na6))) 16 gd6) 11 wT6) 12 qT6) κ6 ++ cs) H) (_ : va_D A (wD ad ty hv σ (up (up (up (up (up (up (up (up (up (up (up ς 6 la1) 7 me1) 8 (sc (n81))) 9 qd1) 10 qu1) 0 ga6) 1 gb6) 2 (sc (na6))) 16 gd6) 11 wT6) 12 qT6) κ6 ++ cs)) (_ : va_S A s.heap H locs) (ls : Array Slot), lv_has ls 3 [(2, .int (ii k1)), (1, .int (ii t1)), (0, .ref (ad 0))] → W p l e (rm4 7 0 0 168) s m args below meth c H locs 0 0 Q (F0 m 13 ls []) := by
    intro n
    induction n with
    | zero =>
      intro k1 t1 hk0 hk1 hct hm
      exact absurd hm (Nat.not_lt_zero _)
    | succ n ih =>
      intro k1 t1 hk0 hk1 hct hm H locs hP hD hS ls hl
      have hn1 := hSo1.n1
      have hn2 := hSo1.toMet.n2
      refine lv_iload_n hx hb dX1_traps_13 rfl (lv_at hl 0 rfl) ?_
      refine lv_aload_n hx hb dX1_traps_14 rfl (lv_at hl 2 rfl) ?_
      refine va_get (D := G) (ci := 0) (v := .int (ii n81)) (C := RX1) (T := TX1) (N := 21) hx hb hts in_X1 hown hK hP 0 (aD_0 _ _ _ _ _ _ _) rfl 12 (by decide) (hts _ q989) (fun _ h9 => h9) rfl dX1_traps_15 ?_
      refine li_icmp_ge (tgt := 49) hx hb ⟨by omega, by omega⟩ ⟨by omega, by omega⟩ dX1_traps_18 (by decide) (fun c18 => ?_) (fun c18 => ?_)
      · refine lv_iload_n hx hb dX1_traps_49 rfl (lv_at hl 1 rfl) ?_
        exact eMi hQ hx hb hr hlk hP hD hS (Nat.le_of_ble_eq_true rfl) (Nat.le_of_ble_eq_true rfl) dX1_traps_50 (⟨t1, ga6, gb6, na6, la1, me1, n81, qd1, qu1, wT6, qT6, gd6, κ6, rfl, rfl, hT6, ⟨_, _, _, hSo1, by rw [hct, show k1 = n81 by omega]⟩⟩)
      · have hmk := (hSo1.mt k1 hk0 c18).1
        have hmf := (hSo1.mt k1 hk0 c18).2
        obtain ⟨hmk0, hmk1⟩ := id hmk
        have hg01 := hgb6 _ hmk hmf
        have hgl := hgd6 _ hmk hmf
        refine lv_iload_n hx hb dX1_traps_21 rfl (lv_at hl 1 rfl) ?_
        refine lv_aload_n hx hb dX1_traps_22 rfl (lv_at hl 2 rfl) ?_
        refine va_get (D := G) (ci := 0) (v := .ref (ad 54)) (C := RX1) (T := TX1) (N := 21) hx hb hts in_X1 hown hK hP 0 (aD_0 _ _ _ _ _ _ _) rfl 18 (by decide) (hts _ q995) (fun _ h9 => h9) rfl dX1_traps_23 ?_
        refine lv_aload_n hx hb dX1_traps_26 rfl (lv_at hl 2 rfl) ?_
        refine va_get (D := G) (ci := 0) (v := .ref (ad 45)) (C := RX1) (T := TX1) (N := 21) hx hb hts in_X1 hown hK hP 0 (aD_0 _ _ _ _ _ _ _) rfl 11 (by decide) (hts _ q988) (fun _ h9 => h9) rfl dX1_traps_27 ?_
        refine lv_iload_n hx hb dX1_traps_30 rfl (lv_at hl 0 rfl) ?_
        refine li_iald (g := me1) hx hb hK hP 45 0 (aD_45 _ _ _ _ _ _ _) rfl (by omega) (by omega) (by decide) dX1_traps_31 ?_
        refine li_zald (g := gd6) hx hb hK hP 54 1 (aD_54 _ _ _ _ _ _ _) rfl (by omega) (by omega) (by decide) dX1_traps_32 ?_
        refine li_if_eq (tgt := 40) hx hb ⟨by omega, by omega⟩ dX1_traps_33 (by decide) (fun c33 => ?_) (fun c33 => ?_)
        · refine li_iconst hx hb dX1_traps_40 ?_
          refine li_add hx hb dX1_traps_41 ?_
          refine lv_istore_n (lv' := [(1, .int (ii (t1 + 1))), (2, .int (ii k1)), (0, .ref (ad 0))]) hx hb dX1_traps_42 rfl hl (by decide) rfl (fun ls hl => ?_)
          refine li_iinc (a := k1) (lv' := [(2, .int (ii (k1 + 1))), (1, .int (ii (t1 + 1))), (0, .ref (ad 0))]) hx hb dX1_traps_43 hl (k := 1) rfl (by decide) rfl (fun ls hl => ?_)
          refine lv_goto (tgt := 13) hx hb dX1_traps_46 (by decide) ?_
          exact ih (k1 + 1) (t1 + 1) (by omega) (by omega) (by rw [cn_s (P := fun i => ¬ LeadA σ (-1) (me1 i)) hk0 (fun q => by have := hgl.mpr q; omega), hct]) (by omega) H locs hP hD hS ls (lv_sub hl [0, 1, 2] rfl)
        · refine li_iconst hx hb dX1_traps_36 ?_
          refine lv_goto (tgt := 41) hx hb dX1_traps_37 (by decide) ?_
          refine li_add hx hb dX1_traps_41 ?_
          refine lv_istore_n (lv' := [(1, .int (ii (t1 + 0))), (2, .int (ii k1)), (0, .ref (ad 0))]) hx hb dX1_traps_42 rfl hl (by decide) rfl (fun ls hl => ?_)
          refine li_iinc (a := k1) (lv' := [(2, .int (ii (k1 + 1))), (1, .int (ii (t1 + 0))), (0, .ref (ad 0))]) hx hb dX1_traps_43 hl (k := 1) rfl (by decide) rfl (fun ls hl => ?_)
          refine lv_goto (tgt := 13) hx hb dX1_traps_46 (by decide) ?_
          exact ih (k1 + 1) (t1 + 0) (by omega) (by omega) (by rw [cn_n (P := fun i => ¬ LeadA σ (-1) (me1 i)) hk0 (fun q => q (hgl.mp (by omega))), hct]; omega) (by omega) H locs hP hD hS ls (lv_sub hl [0, 1, 2] rfl)
  exact L13 _ 0 0 (by omega) (by have := hSo1.n1; omega) ((cn_0 _).symm) (Nat.lt_succ_self _) H locs hP hD hS ls (lv_sub hl [0, 1, 2] rfl)
set_option maxHeartbeats 4000000 in
theorem m_last (l : Launch) (G : va_G) (ad : Nat → Nat) (ty : Nat → ClassId) (hv : Nat → Option Nat) (σ ς κ : mem) (cs : va_W)   (hF : okF σ) (hT : wfS (ς 11) (ς 12)) : cM l yX1_last (ws_ yX1_last cX1_last 4 (some .int)) (rm4 7 0 0 168) G ty (wD ad ty hv σ ς κ ++ cs) [.ref (ad 0)] 0 0 (fun r W' => ∃ (z : Int) (ga : Int → Int) (gb : Int → Int) (na : Int) (la : Int → Int) (me : Int → Int) (n8 : Int) (qd : Int → Int) (qu : Int → Int) (wT : Int → Int) (qT : Int → Int) (gd : Int → Int) (κ' : mem), r = some (.int (ii z)) ∧ W' = wD ad ty hv σ (up (up (up (up (up (up (up (up (up (up (up ς 0 ga) 1 gb) 2 (sc (na))) 6 la) 7 me) 8 (sc (n8))) 9 qd) 10 qu) 11 wT) 12 qT) 16 gd) κ' ++ cs ∧ (wfS wT qT) ∧ (IsLast σ (cdv (σ 6) (σ 7)) z)) := by
  refine cM.of (by decide) (Nat.le_of_ble_eq_true rfl) ?_
  intro p e s m args below meth c A Q H locs hQ hx hb hr hml hown hlk hname hts hK hP hD hS hA hX ls hl
  have hl : lv_has ls 4 [(0, .ref (ad 0))] := hl
  obtain ⟨hW, hWS, hlg⟩ := id hF
  obtain ⟨hw0, hw1, hw2, hw3, hw4, hw5, h8a, h8b, h9a, h9b, h10a, h10b⟩ := id hW
  obtain ⟨hs0, hs1⟩ := id hWS
  refine lv_aload_n hx hb dX1_last_0 rfl (lv_at hl 0 rfl) ?_
  refine kM (va_runV (As := []) (rest := []) ⟨hx, hb, hml, hown, hts⟩ ((m_finds l G ad ty hv σ ς κ cs (show okF σ from hF) (show wfS (ς 11) (ς 12) from hT)) H.size) (cwV 0 hts (lw_V q613 q615 qs23 q76 q616) rfl rfl rfl (by decide +kernel) ⟨Nat.le_of_ble_eq_true rfl, Nat.le_of_ble_eq_true rfl⟩) (pvM (r := (RX1, TX1, 21)) hK hP hD hX 0 (aD_0 _ _ _ _ _ _ _) rfl) rfl rfl hl.1 rfl (lv_room (Nat.le_of_ble_eq_true rfl)) dX1_last_1 ⟨Nat.le_of_ble_eq_true rfl, Nat.le_of_ble_eq_true rfl⟩) hD hS hA (fun v ws1 H locs hv hP hD hS => ?_)
  obtain ⟨ga1, gb1, na1, la1, me1, n81, qd1, qu1, wT1, qT1, κ1, rfl, rfl, hT1, hSo1⟩ := hv
  have hP : va_P G gcl (wD ad ty hv σ (up (up (up (up (up (up (up (up (up (up ς 0 ga1) 1 gb1) 2 (sc (na1))) 6 la1) 7 me1) 8 (sc (n81))) 9 qd1) 10 qu1) 11 wT1) 12 qT1) κ1 ++ cs) H := hP
  have hD : va_D A (wD ad ty hv σ (up (up (up (up (up (up (up (up (up (up ς 0 ga1) 1 gb1) 2 (sc (na1))) 6 la1) 7 me1) 8 (sc (n81))) 9 qd1) 10 qu1) 11 wT1) 12 qT1) κ1 ++ cs) := hD
  have hT1 : wfS wT1 qT1 := hT1
  have hSo1 : Sought (EF σ) (cdv (σ 6) (σ 7)) la1 me1 n81 := hSo1
  refine li_iconst hx hb dX1_last_4 ?_
  refine lv_istore_n (lv' := [(1, .int (ii 0)), (0, .ref (ad 0))]) hx hb dX1_last_5 rfl hl (by decide) rfl (fun ls hl => ?_)
  refine li_iconst hx hb dX1_last_6 ?_
  refine lv_istore_n (lv' := [(2, .int (ii 0)), (1, .int (ii 0)), (0, .ref (ad 0))]) hx hb dX1_last_7 rfl hl (by decide) rfl (fun ls hl => ?_)
  have L8 : ∀ (n : Nat) (p1 : Int) (s1 : Int) (κa : mem) (ga : Int → Int) (gb : Int → Int) (na : Int) (wT : Int → Int) (qT : Int → Int) (gd : Int → Int) (_ : wfS wT qT) (_ : 0 ≤ p1) (_ : p1 ≤ σ 9 0) (_ : lastR (lastB σ la1) p1 s1) (_ : (σ 9 0 - p1).toNat < n) (H : Heap) (locs : List Loc) (_ : va_P G gcl (wD ad ty hv σ (up (up (up (up (up (up (up (up (up (up (up ς 6 la1) 7 me1) 8 (sc (n81))) 9 qd1) 10 qu1) 0 ga) 1 gb) 2 (sc (na))) 11 wT) 12 qT) 16 gd) κa ++ cs) H) (_ : va_D A (wD ad ty hv σ (up (up (up (up (up (up (up (up (up (up (up ς 6 la1) 7 me1) 8 (sc (n81))) 9 qd1) 10 qu1) 0 ga) 1 gb) 2 (sc (na))) 11 wT) 12 qT) 16 gd) κa ++ cs)) (_ : va_S A s.heap H locs) (ls : Array Slot), lv_has ls 4 [(2, .int (ii p1)), (1, .int (ii s1)), (0, .ref (ad 0))] → W p l e (rm4 7 0 0 168) s m args below meth c H locs 0 0 Q (F0 m 8 ls []) := by
    intro n
    induction n with
    | zero =>
      intro p1 s1 κa ga gb na wT qT gd hT hp0 hp1 hlr hm
      exact absurd hm (Nat.not_lt_zero _)
    | succ n ih =>
      intro p1 s1 κa ga gb na wT qT gd hT hp0 hp1 hlr hm H locs hP hD hS ls hl
      have hn1 := hSo1.n1
      have hn2 := hSo1.toMet.n2
      refine lv_iload_n hx hb dX1_last_8 rfl (lv_at hl 0 rfl) ?_
      refine lv_aload_n hx hb dX1_last_9 rfl (lv_at hl 2 rfl) ?_
      refine va_get (D := G) (ci := 0) (v := .ref (ad 1)) (C := RX1) (T := TX1) (N := 21) hx hb hts in_X1 hown hK hP 0 (aD_0 _ _ _ _ _ _ _) rfl 0 (by decide) (hts _ q977) (fun _ h9 => h9) rfl dX1_last_10 ?_
      refine va_get (D := G) (ci := 1) (v := .int (ii (σ 9 0))) (C := RX2) (T := TX2) (N := 13) hx hb hts in_X2 hown hK hP 1 (aD_1 _ _ _ _ _ _ _) rfl 6 (by decide) (hts _ q790) (fun _ h9 => h9) rfl dX1_last_13 ?_
      refine li_icmp_ge (tgt := 84) hx hb ⟨by omega, by omega⟩ (rgi h9a h9b) dX1_last_16 (by decide) (fun c16 => ?_) (fun c16 => ?_)
      · refine lv_iload_n hx hb dX1_last_84 rfl (lv_at hl 1 rfl) ?_
        exact eMi hQ hx hb hr hlk hP hD hS (Nat.le_of_ble_eq_true rfl) (Nat.le_of_ble_eq_true rfl) dX1_last_85 (⟨s1, ga, gb, na, la1, me1, n81, qd1, qu1, wT, qT, gd, κa, rfl, rfl, hT, ⟨_, _, _, hSo1, by rw [show σ 9 0 = p1 by omega]; exact hlr⟩⟩)
      · refine lv_aload_n hx hb dX1_last_19 rfl (lv_at hl 2 rfl) ?_
        refine lv_iload_n hx hb dX1_last_20 rfl (lv_at hl 0 rfl) ?_
        refine kM (va_runV (As := [.int (ii p1)]) (rest := []) ⟨hx, hb, hml, hown, hts⟩ ((m_findGood l G ad ty hv σ (up (up (up (up (up (up (up (up (up (up (up ς 6 la1) 7 me1) 8 (sc (n81))) 9 qd1) 10 qu1) 0 ga) 1 gb) 2 (sc (na))) 11 wT) 12 qT) 16 gd) κa cs p1 (show okF σ from hF) (show wfS wT qT from hT) (show Sought (EF σ) (cdv (σ 6) (σ 7)) la1 me1 n81 from hSo1) (show -1 ≤ p1 ∧ p1 ≤ 2 from ⟨by omega, by omega⟩)) H.size) (cwV 1 hts (lw_V q690 q692 qs30 q76 q693) rfl rfl rfl (by decide +kernel) ⟨Nat.le_of_ble_eq_true rfl, Nat.le_of_ble_eq_true rfl⟩) (pvM (r := (RX1, TX1, 21)) hK hP hD hX 0 (aD_0 _ _ _ _ _ _ _) rfl) rfl rfl hl.1 rfl (lv_room (Nat.le_of_ble_eq_true rfl)) dX1_last_21 ⟨Nat.le_of_ble_eq_true rfl, Nat.le_of_ble_eq_true rfl⟩) hD hS hA (fun v ws1 H locs hv hP hD hS => ?_)
        obtain ⟨ga21, gb21, na21, gd21, wT21, qT21, κ21, rfl, rfl, hT21, hgb21, hgd21⟩ := hv
        have hP : va_P G gcl (wD ad ty hv σ (up (up (up (up (up (up (up (up (up (up (up ς 6 la1) 7 me1) 8 (sc (n81))) 9 qd1) 10 qu1) 0 ga21) 1 gb21) 2 (sc (na21))) 16 gd21) 11 wT21) 12 qT21) κ21 ++ cs) H := hP
        have hD : va_D A (wD ad ty hv σ (up (up (up (up (up (up (up (up (up (up (up ς 6 la1) 7 me1) 8 (sc (n81))) 9 qd1) 10 qu1) 0 ga21) 1 gb21) 2 (sc (na21))) 16 gd21) 11 wT21) 12 qT21) κ21 ++ cs) := hD
        have hT21 : wfS wT21 qT21 := hT21
        have hgb21 : ∀ c, inSt c → la1 c ≠ FARc → gd21 c = 0 ∨ gd21 c = 1 := hgb21
        have hgd21 : ∀ c, inSt c → la1 c ≠ FARc → (gd21 c = 1 ↔ LeadA σ p1 c) := hgd21
        refine li_iconst hx hb dX1_last_24 ?_
        refine lv_istore_n (lv' := [(3, .int (ii 0)), (2, .int (ii p1)), (1, .int (ii s1)), (0, .ref (ad 0))]) hx hb dX1_last_25 rfl hl (by decide) rfl (fun ls hl => ?_)
        have X26 : ∀ (k2 : Int) (s2 : Int) (κb : mem) (wT2 : Int → Int) (qT2 : Int → Int) (_ : wfS wT2 qT2) (_ : lastR (lastB σ la1) (p1 + 1) s2) (H : Heap) (locs : List Loc) (_ : va_P G gcl (wD ad ty hv σ (up (up (up (up (up (up (up (up (up (up (up ς 6 la1) 7 me1) 8 (sc (n81))) 9 qd1) 10 qu1) 0 ga21) 1 gb21) 2 (sc (na21))) 16 gd21) 11 wT2) 12 qT2) κb ++ cs) H) (_ : va_D A (wD ad ty hv σ (up (up (up (up (up (up (up (up (up (up (up ς 6 la1) 7 me1) 8 (sc (n81))) 9 qd1) 10 qu1) 0 ga21) 1 gb21) 2 (sc (na21))) 16 gd21) 11 wT2) 12 qT2) κb ++ cs)) (_ : va_S A s.heap H locs) (ls : Array Slot), lv_has ls 4 [(2, .int (ii p1)), (1, .int (ii s2)), (0, .ref (ad 0))] → W p l e (rm4 7 0 0 168) s m args below meth c H locs 0 0 Q (F0 m 78 ls []) := by
          intro k2 s2 κb wT2 qT2 hT hlr H locs hP hD hS ls hl
          refine li_iinc (a := p1) (lv' := [(2, .int (ii (p1 + 1))), (1, .int (ii s2)), (0, .ref (ad 0))]) hx hb dX1_last_78 hl (k := 0) rfl (by decide) rfl (fun ls hl => ?_)
          refine lv_goto (tgt := 8) hx hb dX1_last_81 (by decide) ?_
          exact ih (p1 + 1) s2 κb ga21 gb21 na21 wT2 qT2 gd21 (hT) (by omega) (by omega) (hlr) (by omega) H locs hP hD hS ls (lv_sub hl [0, 1, 2] rfl)
        have L26 : ∀ (n : Nat) (k2 : Int) (s2 : Int) (κb : mem) (wT2 : Int → Int) (qT2 : Int → Int) (_ : wfS wT2 qT2) (_ : 0 ≤ k2) (_ : k2 ≤ n81) (_ : lastK (lastB σ la1) (∃ j, 0 ≤ j ∧ j < k2 ∧ alone σ p1 (me1 j) ∧ LeadA σ p1 (me1 j)) p1 s2) (_ : (n81 - k2).toNat < n) (H : Heap) (locs : List Loc) (_ : va_P G gcl (wD ad ty hv σ (up (up (up (up (up (up (up (up (up (up (up ς 6 la1) 7 me1) 8 (sc (n81))) 9 qd1) 10 qu1) 0 ga21) 1 gb21) 2 (sc (na21))) 16 gd21) 11 wT2) 12 qT2) κb ++ cs) H) (_ : va_D A (wD ad ty hv σ (up (up (up (up (up (up (up (up (up (up (up ς 6 la1) 7 me1) 8 (sc (n81))) 9 qd1) 10 qu1) 0 ga21) 1 gb21) 2 (sc (na21))) 16 gd21) 11 wT2) 12 qT2) κb ++ cs)) (_ : va_S A s.heap H locs) (ls : Array Slot), lv_has ls 4 [(3, .int (ii k2)), (2, .int (ii p1)), (1, .int (ii s2)), (0, .ref (ad 0))] → W p l e (rm4 7 0 0 168) s m args below meth c H locs 0 0 Q (F0 m 26 ls []) := by
          intro n
          induction n with
          | zero =>
            intro k2 s2 κb wT2 qT2 hT hk0 hk1 hlk hm
            exact absurd hm (Nat.not_lt_zero _)
          | succ n ih =>
            intro k2 s2 κb wT2 qT2 hT hk0 hk1 hlk hm H locs hP hD hS ls hl
            refine lv_iload_n hx hb dX1_last_26 rfl (lv_at hl 0 rfl) ?_
            refine lv_aload_n hx hb dX1_last_27 rfl (lv_at hl 3 rfl) ?_
            refine va_get (D := G) (ci := 0) (v := .int (ii n81)) (C := RX1) (T := TX1) (N := 21) hx hb hts in_X1 hown hK hP 0 (aD_0 _ _ _ _ _ _ _) rfl 12 (by decide) (hts _ q989) (fun _ h9 => h9) rfl dX1_last_28 ?_
            refine li_icmp_ge (tgt := 78) hx hb ⟨by omega, by omega⟩ ⟨by omega, by omega⟩ dX1_last_31 (by decide) (fun c31 => ?_) (fun c31 => ?_)
            · exact X26 k2 s2 κb wT2 qT2 (hT) (lastK_e hlk ⟨fun ⟨j, q1, q2, q3, q4⟩ => ⟨me1 j, (hSo1.mt j q1 (by omega)).1, (hSo1.mt j q1 (by omega)).2, q3, q4⟩, fun ⟨c, q1, q2, q3, q4⟩ => by obtain ⟨j, j0, j1, rfl⟩ := hSo1.ms c q1 q2; exact ⟨j, j0, by omega, q3, q4⟩⟩) H locs hP hD hS ls (lv_sub hl [1, 2, 3] rfl)
            · have hmk := (hSo1.mt k2 hk0 c31).1
              have hmf := (hSo1.mt k2 hk0 c31).2
              obtain ⟨hmk0, hmk1⟩ := id hmk
              have hg01 := hgb21 _ hmk hmf
              have hgl := hgd21 _ hmk hmf
              have hs8 := hlk.1
              have hs9 := hlk.2.1
              refine lv_iload_n hx hb dX1_last_34 rfl (lv_at hl 2 rfl) ?_
              refine lv_aload_n hx hb dX1_last_35 rfl (lv_at hl 3 rfl) ?_
              refine va_get (D := G) (ci := 0) (v := .ref (ad 54)) (C := RX1) (T := TX1) (N := 21) hx hb hts in_X1 hown hK hP 0 (aD_0 _ _ _ _ _ _ _) rfl 18 (by decide) (hts _ q995) (fun _ h9 => h9) rfl dX1_last_36 ?_
              refine lv_aload_n hx hb dX1_last_39 rfl (lv_at hl 3 rfl) ?_
              refine va_get (D := G) (ci := 0) (v := .ref (ad 45)) (C := RX1) (T := TX1) (N := 21) hx hb hts in_X1 hown hK hP 0 (aD_0 _ _ _ _ _ _ _) rfl 11 (by decide) (hts _ q988) (fun _ h9 => h9) rfl dX1_last_40 ?_
              refine lv_iload_n hx hb dX1_last_43 rfl (lv_at hl 0 rfl) ?_
              refine li_iald (g := me1) hx hb hK hP 45 0 (aD_45 _ _ _ _ _ _ _) rfl (by omega) (by omega) (by decide) dX1_last_44 ?_
              refine li_zald (g := gd21) hx hb hK hP 54 1 (aD_54 _ _ _ _ _ _ _) rfl (by omega) (by omega) (by decide) dX1_last_45 ?_
              refine li_if_eq (tgt := 69) hx hb ⟨by omega, by omega⟩ dX1_last_46 (by decide) (fun c46 => ?_) (fun c46 => ?_)
              · refine li_iconst hx hb dX1_last_69 ?_
                refine lv_ior hx hb dX1_last_70 ?_
                refine li_topx (z := s2) (ii_or0 hs8 hs9) ?_
                refine lv_istore_n (lv' := [(1, .int (ii s2)), (3, .int (ii k2)), (2, .int (ii p1)), (0, .ref (ad 0))]) hx hb dX1_last_71 rfl hl (by decide) rfl (fun ls hl => ?_)
                refine li_iinc (a := k2) (lv' := [(3, .int (ii (k2 + 1))), (1, .int (ii s2)), (2, .int (ii p1)), (0, .ref (ad 0))]) hx hb dX1_last_72 hl (k := 1) rfl (by decide) rfl (fun ls hl => ?_)
                refine lv_goto (tgt := 26) hx hb dX1_last_75 (by decide) ?_
                exact ih (k2 + 1) s2 κb wT2 qT2 (hT) (by omega) (by omega) (lastK_c hlk ⟨fun ⟨j, q1, q2, q3, q4⟩ => ⟨j, q1, by omega, q3, q4⟩, fun ⟨j, q1, q2, q3, q4⟩ => ⟨j, q1, by rcases Int.lt_or_le j k2 with y | y; exact y; (rw [show j = k2 by omega] at q3 q4; exact absurd q3 (fun q3 => by have := hgl.mpr q4; omega)), q3, q4⟩⟩) (by omega) H locs hP hD hS ls (lv_sub hl [0, 2, 1, 3] rfl)
              · refine lv_aload_n hx hb dX1_last_49 rfl (lv_at hl 3 rfl) ?_
                refine lv_aload_n hx hb dX1_last_50 rfl (lv_at hl 3 rfl) ?_
                refine va_get (D := G) (ci := 0) (v := .ref (ad 45)) (C := RX1) (T := TX1) (N := 21) hx hb hts in_X1 hown hK hP 0 (aD_0 _ _ _ _ _ _ _) rfl 11 (by decide) (hts _ q988) (fun _ h9 => h9) rfl dX1_last_51 ?_
                refine lv_iload_n hx hb dX1_last_54 rfl (lv_at hl 0 rfl) ?_
                refine li_iald (g := me1) hx hb hK hP 45 0 (aD_45 _ _ _ _ _ _ _) rfl (by omega) (by omega) (by decide) dX1_last_55 ?_
                refine lv_iload_n hx hb dX1_last_56 rfl (lv_at hl 1 rfl) ?_
                refine kM (va_runV (As := [.int (ii (me1 k2)), .int (ii p1)]) (rest := [.int (ii s2)]) ⟨hx, hb, hml, hown, hts⟩ ((m_isAlone l G ad ty hv σ (up (up (up (up (up (up (up (up (up (up (up ς 6 la1) 7 me1) 8 (sc (n81))) 9 qd1) 10 qu1) 0 ga21) 1 gb21) 2 (sc (na21))) 16 gd21) 11 wT2) 12 qT2) κb cs (me1 k2) p1 (show okF σ from hF) (show wfS wT2 qT2 from hT) (show inSt (me1 k2) from hmk) (show 0 ≤ p1 ∧ p1 ≤ 2 from ⟨hp0, by omega⟩)) H.size) (cwV 2 hts (lw_V q694 q696 qs31 q76 q697) rfl rfl rfl (by decide +kernel) ⟨Nat.le_of_ble_eq_true rfl, Nat.le_of_ble_eq_true rfl⟩) (pvM (r := (RX1, TX1, 21)) hK hP hD hX 0 (aD_0 _ _ _ _ _ _ _) rfl) rfl rfl hl.1 rfl (lv_room (Nat.le_of_ble_eq_true rfl)) dX1_last_57 ⟨Nat.le_of_ble_eq_true rfl, Nat.le_of_ble_eq_true rfl⟩) hD hS hA (fun v ws1 H locs hv hP hD hS => ?_)
                obtain ⟨z57, wT57, qT57, κ57, rfl, rfl, hT57, ⟨rfl, hb57⟩ | ⟨rfl, hb57⟩⟩ := hv
                · have hP : va_P G gcl (wD ad ty hv σ (up (up (up (up (up (up (up (up (up (up (up ς 6 la1) 7 me1) 8 (sc (n81))) 9 qd1) 10 qu1) 0 ga21) 1 gb21) 2 (sc (na21))) 16 gd21) 11 wT57) 12 qT57) κ57 ++ cs) H := hP
                  have hD : va_D A (wD ad ty hv σ (up (up (up (up (up (up (up (up (up (up (up ς 6 la1) 7 me1) 8 (sc (n81))) 9 qd1) 10 qu1) 0 ga21) 1 gb21) 2 (sc (na21))) 16 gd21) 11 wT57) 12 qT57) κ57 ++ cs) := hD
                  have hT57 : wfS wT57 qT57 := hT57
                  have hb57 : alone σ p1 (me1 k2) := hb57
                  refine li_if_eq (tgt := 69) hx hb ⟨by decide, by decide⟩ dX1_last_60 (by decide) (fun c60 => ?_) (fun c60 => ?_)
                  · exact absurd c60 (by decide)
                  · refine li_iconst hx hb dX1_last_63 ?_
                    refine lv_iload_n hx hb dX1_last_64 rfl (lv_at hl 1 rfl) ?_
                    refine lv_ishl hx hb dX1_last_65 ?_
                    refine li_topx (z := p2 p1) (ii_shl1 hp0 (by omega)) ?_
                    refine lv_goto (tgt := 70) hx hb dX1_last_66 (by decide) ?_
                    refine lv_ior hx hb dX1_last_70 ?_
                    refine li_topx (z := orv s2 p1) (ii_orp hs8 hs9 hp0 (by omega)) ?_
                    refine lv_istore_n (lv' := [(1, .int (ii (orv s2 p1))), (3, .int (ii k2)), (2, .int (ii p1)), (0, .ref (ad 0))]) hx hb dX1_last_71 rfl hl (by decide) rfl (fun ls hl => ?_)
                    refine li_iinc (a := k2) (lv' := [(3, .int (ii (k2 + 1))), (1, .int (ii (orv s2 p1))), (2, .int (ii p1)), (0, .ref (ad 0))]) hx hb dX1_last_72 hl (k := 1) rfl (by decide) rfl (fun ls hl => ?_)
                    refine lv_goto (tgt := 26) hx hb dX1_last_75 (by decide) ?_
                    exact ih (k2 + 1) (orv s2 p1) κ57 wT57 qT57 (hT57) (by omega) (by omega) (lastK_c (lastK_or hlk hp0 (by omega)) ⟨fun _ => ⟨k2, hk0, by omega, hb57, hgl.mp (by omega)⟩, fun _ => trivial⟩) (by omega) H locs hP hD hS ls (lv_sub hl [0, 2, 1, 3] rfl)
                · have hP : va_P G gcl (wD ad ty hv σ (up (up (up (up (up (up (up (up (up (up (up ς 6 la1) 7 me1) 8 (sc (n81))) 9 qd1) 10 qu1) 0 ga21) 1 gb21) 2 (sc (na21))) 16 gd21) 11 wT57) 12 qT57) κ57 ++ cs) H := hP
                  have hD : va_D A (wD ad ty hv σ (up (up (up (up (up (up (up (up (up (up (up ς 6 la1) 7 me1) 8 (sc (n81))) 9 qd1) 10 qu1) 0 ga21) 1 gb21) 2 (sc (na21))) 16 gd21) 11 wT57) 12 qT57) κ57 ++ cs) := hD
                  have hT57 : wfS wT57 qT57 := hT57
                  have hb57 : ¬ alone σ p1 (me1 k2) := hb57
                  refine li_if_eq (tgt := 69) hx hb ⟨by decide, by decide⟩ dX1_last_60 (by decide) (fun c60 => ?_) (fun c60 => ?_)
                  · refine li_iconst hx hb dX1_last_69 ?_
                    refine lv_ior hx hb dX1_last_70 ?_
                    refine li_topx (z := s2) (ii_or0 hs8 hs9) ?_
                    refine lv_istore_n (lv' := [(1, .int (ii s2)), (3, .int (ii k2)), (2, .int (ii p1)), (0, .ref (ad 0))]) hx hb dX1_last_71 rfl hl (by decide) rfl (fun ls hl => ?_)
                    refine li_iinc (a := k2) (lv' := [(3, .int (ii (k2 + 1))), (1, .int (ii s2)), (2, .int (ii p1)), (0, .ref (ad 0))]) hx hb dX1_last_72 hl (k := 1) rfl (by decide) rfl (fun ls hl => ?_)
                    refine lv_goto (tgt := 26) hx hb dX1_last_75 (by decide) ?_
                    exact ih (k2 + 1) s2 κ57 wT57 qT57 (hT57) (by omega) (by omega) (lastK_c hlk ⟨fun ⟨j, q1, q2, q3, q4⟩ => ⟨j, q1, by omega, q3, q4⟩, fun ⟨j, q1, q2, q3, q4⟩ => ⟨j, q1, by rcases Int.lt_or_le j k2 with y | y; exact y; (rw [show j = k2 by omega] at q3 q4; exact absurd q3 (fun q3 => hb57 q3)), q3, q4⟩⟩) (by omega) H locs hP hD hS ls (lv_sub hl [0, 2, 1, 3] rfl)
                  · exact absurd c60 (by decide)
        exact L26 _ 0 s1 κ21 wT21 qT21 (hT21) (by omega) (by have := hSo1.n1; omega) (lastK_0 hlr (fun ⟨j, q1, q2, _⟩ => by omega)) (Nat.lt_succ_self _) H locs hP hD hS ls (lv_sub hl [0, 1, 2, 3] rfl)
  exact L8 _ 0 0 κ1 ga1 gb1 na1 wT1 qT1 (ς 16) (hT1) (by omega) (h9a) (lastR_0 _) (Nat.lt_succ_self _) H locs hP hD hS ls (lv_sub hl [0, 1, 2] rfl)
set_option maxHeartbeats 4000000 in
theorem m_meets (l : Launch) (G : va_G) (ad : Nat → Nat) (ty : Nat → ClassId) (hv : Nat → Option Nat) (σ ς κ : mem) (cs : va_W)   (hF : okF σ) (hT : wfS (ς 11) (ς 12)) : cM l yX1_meets (ws_ yX1_meets cX1_meets 5 none) (rm4 5 0 0 120) G ty (wD ad ty hv σ ς κ ++ cs) [.ref (ad 0)] 0 0 (fun r W' => ∃ (ga : Int → Int) (gb : Int → Int) (na : Int) (la : Int → Int) (me : Int → Int) (n8 : Int) (wT : Int → Int) (qT : Int → Int) (κ' : mem), r = none ∧ W' = wD ad ty hv σ (up (up (up (up (up (up (up (up ς 0 ga) 1 gb) 2 (sc (na))) 6 la) 7 me) 8 (sc (n8))) 11 wT) 12 qT) κ' ++ cs ∧ (wfS wT qT) ∧ (Sought (E0 σ) (cdv (σ 6) (σ 7)) la me n8)) := by
  refine cM.of (by decide) (Nat.le_of_ble_eq_true rfl) ?_
  intro p e s m args below meth c A Q H locs hQ hx hb hr hml hown hlk hname hts hK hP hD hS hA hX ls hl
  have hl : lv_has ls 5 [(0, .ref (ad 0))] := hl
  obtain ⟨hW, hWS, hlg⟩ := id hF
  obtain ⟨hw0, hw1, hw2, hw3, hw4, hw5, h8a, h8b, h9a, h9b, h10a, h10b⟩ := id hW
  obtain ⟨hs0, hs1⟩ := id hWS
  have hst := (cdv_dig hWS.1 hWS.2).1
  obtain ⟨hst0, hst1⟩ := id hst
  have hokS : okC σ (cdv (σ 6) (σ 7)) := okC_cdv hWS hlg
  refine lv_aload_n hx hb dX1_meets_0 rfl (lv_at hl 0 rfl) ?_
  refine li_iconst hx hb dX1_meets_1 ?_
  refine va_put (D := G) (ci := 0) (v := .int (ii 0)) (ty := .int) (C := RX1) (T := TX1) (N := 21) hx hb hts in_X1 tyX1 tyX1_ok nmX1 hown hK hP hD hS 0 (aD_0 _ _ _ _ _ _ _) rfl 12 (by decide) (hts _ q989) (fun _ h9 => h9) rfl (tyX1_ok 12 (by decide)) rfl rfl (Nat.le_of_ble_eq_true rfl) dX1_meets_2 (fun H locs hP hD hS => ?_)
  have hP : va_P G gcl (wD ad ty hv σ (up ς 8 (sc (0))) κ ++ cs) H := hP
  have hD : va_D A (wD ad ty hv σ (up ς 8 (sc (0))) κ ++ cs) := hD
  refine li_iconst hx hb dX1_meets_5 ?_
  refine lv_istore_n (lv' := [(1, .int (ii 0)), (0, .ref (ad 0))]) hx hb dX1_meets_6 rfl hl (by decide) rfl (fun ls hl => ?_)
  have X7 : ∀ (i1 : Int) (la0 : Int → Int) (_ : ∀ c, inSt c → la0 c = FARc) (H : Heap) (locs : List Loc) (_ : va_P G gcl (wD ad ty hv σ (up (up ς 8 (sc (0))) 6 la0) κ ++ cs) H) (_ : va_D A (wD ad ty hv σ (up (up ς 8 (sc (0))) 6 la0) κ ++ cs)) (_ : va_S A s.heap H locs) (ls : Array Slot), lv_has ls 5 [(0, .ref (ad 0))] → W p l e (rm4 5 0 0 120) s m args below meth c H locs 0 0 Q (F0 m 28 ls []) := by
    intro i1 la0 hla H locs hP hD hS ls hl
    refine lv_aload_n hx hb dX1_meets_28 rfl (lv_at hl 0 rfl) ?_
    refine lv_aload_n hx hb dX1_meets_29 rfl (lv_at hl 0 rfl) ?_
    refine va_get (D := G) (ci := 0) (v := .ref (ad 1)) (C := RX1) (T := TX1) (N := 21) hx hb hts in_X1 hown hK hP 0 (aD_0 _ _ _ _ _ _ _) rfl 0 (by decide) (hts _ q977) (fun _ h9 => h9) rfl dX1_meets_30 ?_
    refine va_get (D := G) (ci := 1) (v := .ref (ad 8)) (C := RX2) (T := TX2) (N := 13) hx hb hts in_X2 hown hK hP 1 (aD_1 _ _ _ _ _ _ _) rfl 12 (by decide) (hts _ q810) (fun _ h9 => h9) rfl dX1_meets_33 ?_
    refine kR (va_runV (As := []) (rest := [.ref (ad 0)]) ⟨hx, hb, hml, hown, hts⟩ (m_code l G ty (wD ad ty hv σ (up (up ς 8 (sc (0))) 6 la0) κ ++ cs) (fun k => 8 + k) (fun k => ad (8 + k)) (σ 6) (σ 7) ⟨rfl, rfl, rfl⟩) (cwV 0 hts (lw_V q618 q619 q620 q78 q621) rfl rfl rfl (by decide +kernel) ⟨Nat.le_of_ble_eq_true rfl, Nat.le_of_ble_eq_true rfl⟩) (pvR (r := (RX3, TX3, 2)) hK hP hD hX 8 (aD_8 _ _ _ _ _ _ _) rfl) rfl rfl hl.1 rfl (lv_room (Nat.le_of_ble_eq_true rfl)) dX1_meets_36 ⟨Nat.le_of_ble_eq_true rfl, Nat.le_of_ble_eq_true rfl⟩) (fun v hv => ?_)
    obtain ⟨z36, rfl, rfl⟩ := hv
    refine li_iconst hx hb dX1_meets_39 ?_
    refine kM (va_runV (As := [.int (ii (cdv (σ 6) (σ 7))), .int (ii 0)]) (rest := []) ⟨hx, hb, hml, hown, hts⟩ ((m_reaches l G ad ty hv σ (up (up ς 8 (sc (0))) 6 la0) κ cs (cdv (σ 6) (σ 7)) 0 (show inSt (cdv (σ 6) (σ 7)) from hst) (show 0 ≤ la0 (cdv (σ 6) (σ 7)) ∧ la0 (cdv (σ 6) (σ 7)) ≤ FARc from ⟨by rw [hla _ hst]; decide, by rw [hla _ hst]; decide⟩) (show 0 ≤ 0 ∧ (la0 (cdv (σ 6) (σ 7)) = FARc → 0 < 4500) from ⟨Int.le_refl 0, fun _ => by decide⟩)) H.size) (cwV 2 hts (lw_V q622 q624 qs24 q76 q625) rfl rfl rfl (by decide +kernel) ⟨Nat.le_of_ble_eq_true rfl, Nat.le_of_ble_eq_true rfl⟩) (pvM (r := (RX1, TX1, 21)) hK hP hD hX 0 (aD_0 _ _ _ _ _ _ _) rfl) rfl rfl hl.1 rfl (lv_room (Nat.le_of_ble_eq_true rfl)) dX1_meets_40 ⟨Nat.le_of_ble_eq_true rfl, Nat.le_of_ble_eq_true rfl⟩) hD hS hA (fun v ws1 H locs hv hP hD hS => ?_)
    obtain ⟨g40, n40, rfl, rfl, hg40, hn40⟩ := hv
    have hP : va_P G gcl (wD ad ty hv σ (up (up (up ς 7 g40) 8 (sc (n40))) 6 (ug la0 (cdv (σ 6) (σ 7)) 0)) κ ++ cs) H := hP
    have hD : va_D A (wD ad ty hv σ (up (up (up ς 7 g40) 8 (sc (n40))) 6 (ug la0 (cdv (σ 6) (σ 7)) 0)) κ ++ cs) := hD
    have hg40 : g40 = if la0 (cdv (σ 6) (σ 7)) = FARc then ug (ς 7) 0 (cdv (σ 6) (σ 7)) else (ς 7) := hg40
    have hn40 : n40 = if la0 (cdv (σ 6) (σ 7)) = FARc then 0 + 1 else 0 := hn40
    refine li_iconst hx hb dX1_meets_43 ?_
    refine lv_istore_n (lv' := [(1, .int (ii 0)), (0, .ref (ad 0))]) hx hb dX1_meets_44 rfl hl (by decide) rfl (fun ls hl => ?_)
    have L45 : ∀ (n : Nat) (k1 : Int) (κa : mem) (ga : Int → Int) (gb : Int → Int) (na : Int) (la : Int → Int) (me : Int → Int) (n8 : Int) (wT : Int → Int) (qT : Int → Int) (_ : wfS wT qT) (_ : 0 ≤ k1) (_ : k1 ≤ n8) (_ : Mt (E0 σ) (cdv (σ 6) (σ 7)) la me n8) (_ : mcl σ la me k1) (_ : (4500 - k1).toNat < n) (H : Heap) (locs : List Loc) (_ : va_P G gcl (wD ad ty hv σ (up (up (up (up (up (up (up (up ς 0 ga) 1 gb) 2 (sc (na))) 6 la) 7 me) 8 (sc (n8))) 11 wT) 12 qT) κa ++ cs) H) (_ : va_D A (wD ad ty hv σ (up (up (up (up (up (up (up (up ς 0 ga) 1 gb) 2 (sc (na))) 6 la) 7 me) 8 (sc (n8))) 11 wT) 12 qT) κa ++ cs)) (_ : va_S A s.heap H locs) (ls : Array Slot), lv_has ls 5 [(1, .int (ii k1)), (0, .ref (ad 0))] → W p l e (rm4 5 0 0 120) s m args below meth c H locs 0 0 Q (F0 m 45 ls []) := by
      intro n
      induction n with
      | zero =>
        intro k1 κa ga gb na la me n8 wT qT hT hk0 hk1 hM hcl hm
        exact absurd hm (Nat.not_lt_zero _)
      | succ n ih =>
        intro k1 κa ga gb na la me n8 wT qT hT hk0 hk1 hM hcl hm H locs hP hD hS ls hl
        have hn1 := hM.n1
        have hn2 := hM.n2
        refine lv_iload_n hx hb dX1_meets_45 rfl (lv_at hl 0 rfl) ?_
        refine lv_aload_n hx hb dX1_meets_46 rfl (lv_at hl 1 rfl) ?_
        refine va_get (D := G) (ci := 0) (v := .int (ii n8)) (C := RX1) (T := TX1) (N := 21) hx hb hts in_X1 hown hK hP 0 (aD_0 _ _ _ _ _ _ _) rfl 12 (by decide) (hts _ q989) (fun _ h9 => h9) rfl dX1_meets_47 ?_
        refine li_icmp_ge (tgt := 180) hx hb ⟨by omega, by omega⟩ ⟨by omega, by omega⟩ dX1_meets_50 (by decide) (fun c50 => ?_) (fun c50 => ?_)
        · exact eMv hQ hx hb hr hlk hP hD hS (Nat.le_of_ble_eq_true rfl) (Nat.le_of_ble_eq_true rfl) dX1_meets_180 (⟨ga, gb, na, la, me, n8, wT, qT, κa, rfl, rfl, hT, mcl_e hM hcl (by omega)⟩)
        · have hmk := (hM.mt k1 hk0 c50).1
          have hmf := (hM.mt k1 hk0 c50).2
          obtain ⟨hmk0, hmk1⟩ := id hmk
          refine lv_aload_n hx hb dX1_meets_53 rfl (lv_at hl 1 rfl) ?_
          refine va_get (D := G) (ci := 0) (v := .ref (ad 48)) (C := RX1) (T := TX1) (N := 21) hx hb hts in_X1 hown hK hP 0 (aD_0 _ _ _ _ _ _ _) rfl 15 (by decide) (hts _ q992) (fun _ h9 => h9) rfl dX1_meets_54 ?_
          refine lv_aload_n hx hb dX1_meets_57 rfl (lv_at hl 1 rfl) ?_
          refine va_get (D := G) (ci := 0) (v := .ref (ad 45)) (C := RX1) (T := TX1) (N := 21) hx hb hts in_X1 hown hK hP 0 (aD_0 _ _ _ _ _ _ _) rfl 11 (by decide) (hts _ q988) (fun _ h9 => h9) rfl dX1_meets_58 ?_
          refine lv_iload_n hx hb dX1_meets_61 rfl (lv_at hl 0 rfl) ?_
          refine li_iald (g := me) hx hb hK hP 45 0 (aD_45 _ _ _ _ _ _ _) rfl (by omega) (by omega) (by decide) dX1_meets_62 ?_
          refine kM (va_runV (As := [.int (ii (me k1))]) (rest := []) ⟨hx, hb, hml, hown, hts⟩ (m_decodes l G ty (wD ad ty hv σ (up (up (up (up (up (up (up (up ς 0 ga) 1 gb) 2 (sc (na))) 6 la) 7 me) 8 (sc (n8))) 11 wT) 12 qT) κa ++ cs) (fun k => 48 + k) (fun k => ad (48 + k)) wT qT (me k1) ⟨rfl, rfl, rfl⟩ hmk (by decide) (by decide) (by decide) (by decide) H.size) (cwV 1 hts (lw_V q626 q627 q628 q78 q629) rfl rfl rfl (by decide +kernel) ⟨Nat.le_of_ble_eq_true rfl, Nat.le_of_ble_eq_true rfl⟩) (pvM (r := (RX3, TX3, 2)) hK hP hD hX 48 (aD_48 _ _ _ _ _ _ _) rfl) rfl rfl hl.1 rfl (lv_room (Nat.le_of_ble_eq_true rfl)) dX1_meets_63 ⟨Nat.le_of_ble_eq_true rfl, Nat.le_of_ble_eq_true rfl⟩) hD hS hA (fun v ws1 H locs hv hP hD hS => ?_)
          obtain ⟨rfl, rfl⟩ := hv
          have hP : va_P G gcl (wD ad ty hv σ (up (up (up (up (up (up (up (up ς 0 ga) 1 gb) 2 (sc (na))) 6 la) 7 me) 8 (sc (n8))) 11 (dcw (me k1) wT)) 12 (dcq (me k1) qT)) κa ++ cs) H := hP
          have hD : va_D A (wD ad ty hv σ (up (up (up (up (up (up (up (up ς 0 ga) 1 gb) 2 (sc (na))) 6 la) 7 me) 8 (sc (n8))) 11 (dcw (me k1) wT)) 12 (dcq (me k1) qT)) κa ++ cs) := hD
          refine lv_aload_n hx hb dX1_meets_66 rfl (lv_at hl 1 rfl) ?_
          refine lv_aload_n hx hb dX1_meets_67 rfl (lv_at hl 1 rfl) ?_
          refine va_get (D := G) (ci := 0) (v := .ref (ad 48)) (C := RX1) (T := TX1) (N := 21) hx hb hts in_X1 hown hK hP 0 (aD_0 _ _ _ _ _ _ _) rfl 15 (by decide) (hts _ q992) (fun _ h9 => h9) rfl dX1_meets_68 ?_
          refine kM (va_runV (As := [.ref (ad 48)]) (rest := []) ⟨hx, hb, hml, hown, hts⟩ (m_listsT l G ad ty hv σ (up (up (up (up (up (up (up (up ς 0 ga) 1 gb) 2 (sc (na))) 6 la) 7 me) 8 (sc (n8))) 11 (dcw (me k1) wT)) 12 (dcq (me k1) qT)) κa cs hW (show wfS (dcw (me k1) wT) (dcq (me k1) qT) from ⟨dcw_b hT.1, dcq_b hT.2⟩) (show (0 < σ 9 0 → 0 ≤ dcw (me k1) wT 0 ∧ dcw (me k1) wT 0 < σ 8 0) ∧ (1 < σ 9 0 → 0 ≤ dcw (me k1) wT 1 ∧ dcw (me k1) wT 1 < σ 8 0) ∧ (2 < σ 9 0 → 0 ≤ dcw (me k1) wT 2 ∧ dcw (me k1) wT 2 < σ 8 0) from okC_dc (hM.okc0 hokS hmk hmf)) H.size) (cwV 1 hts (lw_V q545 q547 qs19 q76 q548) rfl rfl rfl (by decide +kernel) ⟨Nat.le_of_ble_eq_true rfl, Nat.le_of_ble_eq_true rfl⟩) (pvM (r := (RX1, TX1, 21)) hK hP hD hX 0 (aD_0 _ _ _ _ _ _ _) rfl) rfl rfl hl.1 rfl (lv_room (Nat.le_of_ble_eq_true rfl)) dX1_meets_71 ⟨Nat.le_of_ble_eq_true rfl, Nat.le_of_ble_eq_true rfl⟩) hD hS hA (fun v ws1 H locs hv hP hD hS => ?_)
          obtain ⟨gl71, gm71, nl71, κ71, rfl, rfl, hLI71, hn071, hn171⟩ := hv
          have hP : va_P G gcl (wD ad ty hv σ (up (up (up (up (up (up (up (up ς 6 la) 7 me) 8 (sc (n8))) 11 (dcw (me k1) wT)) 12 (dcq (me k1) qT)) 0 gl71) 1 gm71) 2 (sc (nl71))) κ71 ++ cs) H := hP
          have hD : va_D A (wD ad ty hv σ (up (up (up (up (up (up (up (up ς 6 la) 7 me) 8 (sc (n8))) 11 (dcw (me k1) wT)) 12 (dcq (me k1) qT)) 0 gl71) 1 gm71) 2 (sc (nl71))) κ71 ++ cs) := hD
          have hLI71 : LI (leg σ (me k1)) (mvV σ) gl71 gm71 nl71 70000 := LI_dc hLI71
          refine li_iconst hx hb dX1_meets_74 ?_
          refine lv_istore_n (lv' := [(2, .int (ii 0)), (1, .int (ii k1)), (0, .ref (ad 0))]) hx hb dX1_meets_75 rfl hl (by decide) rfl (fun ls hl => ?_)
          have X76 : ∀ (j1 : Int) (κb : mem) (lb : Int → Int) (mf : Int → Int) (nb : Int) (_ : Mt (E0 σ) (cdv (σ 6) (σ 7)) lb mf nb) (_ : k1 + 1 ≤ nb) (_ : mcl σ lb mf (k1 + 1)) (H : Heap) (locs : List Loc) (_ : va_P G gcl (wD ad ty hv σ (up (up (up (up (up (up (up (up ς 11 (dcw (me k1) wT)) 12 (dcq (me k1) qT)) 0 gl71) 1 gm71) 2 (sc (nl71))) 6 lb) 7 mf) 8 (sc (nb))) κb ++ cs) H) (_ : va_D A (wD ad ty hv σ (up (up (up (up (up (up (up (up ς 11 (dcw (me k1) wT)) 12 (dcq (me k1) qT)) 0 gl71) 1 gm71) 2 (sc (nl71))) 6 lb) 7 mf) 8 (sc (nb))) κb ++ cs)) (_ : va_S A s.heap H locs) (ls : Array Slot), lv_has ls 5 [(1, .int (ii k1)), (0, .ref (ad 0))] → W p l e (rm4 5 0 0 120) s m args below meth c H locs 0 0 Q (F0 m 174 ls []) := by
            intro j1 κb lb mf nb hM hkn hcl H locs hP hD hS ls hl
            have hT : wfS (dcw (me k1) wT) (dcq (me k1) qT) := ⟨dcw_b hT.1, dcq_b hT.2⟩
            refine li_iinc (a := k1) (lv' := [(1, .int (ii (k1 + 1))), (0, .ref (ad 0))]) hx hb dX1_meets_174 hl (k := 0) rfl (by decide) rfl (fun ls hl => ?_)
            refine lv_goto (tgt := 45) hx hb dX1_meets_177 (by decide) ?_
            exact ih (k1 + 1) κb gl71 gm71 nl71 lb mf nb (dcw (me k1) wT) (dcq (me k1) qT) (hT) (by omega) (by omega) (hM) (hcl) (by have := hM.n2; omega) H locs hP hD hS ls (lv_sub hl [0, 1] rfl)
          have L76 : ∀ (n : Nat) (j1 : Int) (κb : mem) (lb : Int → Int) (mf : Int → Int) (nb : Int) (_ : 0 ≤ j1) (_ : j1 ≤ nl71) (_ : Mt (E0 σ) (cdv (σ 6) (σ 7)) lb mf nb) (_ : mext la me n8 lb mf nb) (_ : seenI (leg σ (me k1)) (mst σ lb (me k1)) j1) (_ : (nl71 - j1).toNat < n) (H : Heap) (locs : List Loc) (_ : va_P G gcl (wD ad ty hv σ (up (up (up (up (up (up (up (up ς 11 (dcw (me k1) wT)) 12 (dcq (me k1) qT)) 0 gl71) 1 gm71) 2 (sc (nl71))) 6 lb) 7 mf) 8 (sc (nb))) κb ++ cs) H) (_ : va_D A (wD ad ty hv σ (up (up (up (up (up (up (up (up ς 11 (dcw (me k1) wT)) 12 (dcq (me k1) qT)) 0 gl71) 1 gm71) 2 (sc (nl71))) 6 lb) 7 mf) 8 (sc (nb))) κb ++ cs)) (_ : va_S A s.heap H locs) (ls : Array Slot), lv_has ls 5 [(2, .int (ii j1)), (1, .int (ii k1)), (0, .ref (ad 0))] → W p l e (rm4 5 0 0 120) s m args below meth c H locs 0 0 Q (F0 m 76 ls []) := by
            intro n
            induction n with
            | zero =>
              intro j1 κb lb mf nb hj0 hj1 hMb hmi hse hm
              exact absurd hm (Nat.not_lt_zero _)
            | succ n ih =>
              intro j1 κb lb mf nb hj0 hj1 hMb hmi hse hm H locs hP hD hS ls hl
              refine lv_iload_n hx hb dX1_meets_76 rfl (lv_at hl 0 rfl) ?_
              refine lv_aload_n hx hb dX1_meets_77 rfl (lv_at hl 2 rfl) ?_
              refine va_get (D := G) (ci := 0) (v := .int (ii nl71)) (C := RX1) (T := TX1) (N := 21) hx hb hts in_X1 hown hK hP 0 (aD_0 _ _ _ _ _ _ _) rfl 7 (by decide) (hts _ q984) (fun _ h9 => h9) rfl dX1_meets_78 ?_
              refine li_icmp_ge (tgt := 174) hx hb ⟨by omega, by omega⟩ ⟨by omega, by omega⟩ dX1_meets_81 (by decide) (fun c81 => ?_) (fun c81 => ?_)
              · exact X76 j1 κb lb mf nb (hMb) (by have := hmi.2.2; omega) (mcl_s hcl hmi c50 (seenI_all hse hLI71 leg_b (by omega))) H locs hP hD hS ls (lv_sub hl [1, 2] rfl)
              · obtain ⟨hb0, hb1, hleg, hval, hcn⟩ := LI_at hLI71 (by decide) hj0 c81
                have hvb := mvV_b hW hleg.1
                have hm0 := hleg.1.1
                have hm1 := hleg.1.2.1
                have hn1b := hMb.n1
                have hmlb := hmi.1 _ hmf
                refine lv_aload_n hx hb dX1_meets_84 rfl (lv_at hl 2 rfl) ?_
                refine lv_aload_n hx hb dX1_meets_85 rfl (lv_at hl 2 rfl) ?_
                refine va_get (D := G) (ci := 0) (v := .ref (ad 48)) (C := RX1) (T := TX1) (N := 21) hx hb hts in_X1 hown hK hP 0 (aD_0 _ _ _ _ _ _ _) rfl 15 (by decide) (hts _ q992) (fun _ h9 => h9) rfl dX1_meets_86 ?_
                refine lv_aload_n hx hb dX1_meets_89 rfl (lv_at hl 2 rfl) ?_
                refine va_get (D := G) (ci := 0) (v := .ref (ad 39)) (C := RX1) (T := TX1) (N := 21) hx hb hts in_X1 hown hK hP 0 (aD_0 _ _ _ _ _ _ _) rfl 5 (by decide) (hts _ q982) (fun _ h9 => h9) rfl dX1_meets_90 ?_
                refine lv_iload_n hx hb dX1_meets_93 rfl (lv_at hl 0 rfl) ?_
                refine li_iald (g := gl71) hx hb hK hP 39 0 (aD_39 _ _ _ _ _ _ _) rfl (by omega) (by omega) (by decide) dX1_meets_94 ?_
                refine kM (va_runV (As := [.ref (ad 48), .int (ii (gl71 j1))]) (rest := []) ⟨hx, hb, hml, hown, hts⟩ ((m_behind l G ad ty hv σ (up (up (up (up (up (up (up (up ς 11 (dcw (me k1) wT)) 12 (dcq (me k1) qT)) 0 gl71) 1 gm71) 2 (sc (nl71))) 6 lb) 7 mf) 8 (sc (nb))) κb cs (gl71 j1) (hleg.1)) H.size) (cwV 2 hts (lw_V q630 q632 qs25 q76 q633) rfl rfl rfl (by decide +kernel) ⟨Nat.le_of_ble_eq_true rfl, Nat.le_of_ble_eq_true rfl⟩) (pvM (r := (RX1, TX1, 21)) hK hP hD hX 0 (aD_0 _ _ _ _ _ _ _) rfl) rfl rfl hl.1 rfl (lv_room (Nat.le_of_ble_eq_true rfl)) dX1_meets_95 ⟨Nat.le_of_ble_eq_true rfl, Nat.le_of_ble_eq_true rfl⟩) hD hS hA (fun v ws1 H locs hv hP hD hS => ?_)
                obtain ⟨κ95, rfl, rfl⟩ := hv
                have hP : va_P G gcl (wD ad ty hv σ (up (up (up (up (up (up (up (up ς 11 (dcw (me k1) wT)) 12 (dcq (me k1) qT)) 0 gl71) 1 gm71) 2 (sc (nl71))) 6 lb) 7 mf) 8 (sc (nb))) κ95 ++ cs) H := hP
                have hD : va_D A (wD ad ty hv σ (up (up (up (up (up (up (up (up ς 11 (dcw (me k1) wT)) 12 (dcq (me k1) qT)) 0 gl71) 1 gm71) 2 (sc (nl71))) 6 lb) 7 mf) 8 (sc (nb))) κ95 ++ cs) := hD
                refine li_topx (z := nx (me k1) (gl71 j1)) (congrArg ii (nxS_dc _ _ _ _)) ?_
                refine lv_istore_n (lv' := [(3, .int (ii (nx (me k1) (gl71 j1)))), (2, .int (ii j1)), (1, .int (ii k1)), (0, .ref (ad 0))]) hx hb dX1_meets_98 rfl hl (by decide) rfl (fun ls hl => ?_)
                have hnx := nx_in (c := me k1) hleg.1
                obtain ⟨hnx0, hnx1⟩ := id hnx
                have hrt := hMb.rg hnx
                refine lv_aload_n hx hb dX1_meets_99 rfl (lv_at hl 3 rfl) ?_
                refine va_get (D := G) (ci := 0) (v := .ref (ad 44)) (C := RX1) (T := TX1) (N := 21) hx hb hts in_X1 hown hK hP 0 (aD_0 _ _ _ _ _ _ _) rfl 10 (by decide) (hts _ q987) (fun _ h9 => h9) rfl dX1_meets_100 ?_
                refine lv_iload_n hx hb dX1_meets_103 rfl (lv_at hl 0 rfl) ?_
                refine li_iald (g := lb) hx hb hK hP 44 0 (aD_44 _ _ _ _ _ _ _) rfl (by omega) (by omega) (by decide) dX1_meets_104 ?_
                refine lv_ldc (v := ii 1000000000) hx hb hown (hts _ q617) dX1_meets_105 ?_
                refine li_icmp_ne (tgt := 116) hx hb ⟨by omega, by omega⟩ ⟨by decide, by decide⟩ dX1_meets_107 (by decide) (fun c107 => ?_) (fun c107 => ?_)
                · have hMd := hMb
                  have hmd := mext_0 lb mf nb
                  have hxd : lb (nx (me k1) (gl71 j1)) ≠ FARc := c107
                  refine lv_aload_n hx hb dX1_meets_116 rfl (lv_at hl 3 rfl) ?_
                  refine va_get (D := G) (ci := 0) (v := .ref (ad 39)) (C := RX1) (T := TX1) (N := 21) hx hb hts in_X1 hown hK hP 0 (aD_0 _ _ _ _ _ _ _) rfl 5 (by decide) (hts _ q982) (fun _ h9 => h9) rfl dX1_meets_117 ?_
                  refine lv_iload_n hx hb dX1_meets_120 rfl (lv_at hl 1 rfl) ?_
                  refine li_iald (g := gl71) hx hb hK hP 39 0 (aD_39 _ _ _ _ _ _ _) rfl (by omega) (by omega) (by decide) dX1_meets_121 ?_
                  refine li_sipush hx hb dX1_meets_122 (by decide) ?_
                  refine li_div hx hb (by omega) (by omega) (by omega) (by omega) dX1_meets_125 ?_
                  refine li_iconst hx hb dX1_meets_126 ?_
                  refine li_icmp_eq (tgt := 133) hx hb ⟨by omega, by omega⟩ ⟨by decide, by decide⟩ dX1_meets_127 (by decide) (fun c127 => ?_) (fun c127 => ?_)
                  · refine lv_aload_n hx hb dX1_meets_133 rfl (lv_at hl 3 rfl) ?_
                    refine lv_aload_n hx hb dX1_meets_134 rfl (lv_at hl 3 rfl) ?_
                    refine va_get (D := G) (ci := 0) (v := .ref (ad 48)) (C := RX1) (T := TX1) (N := 21) hx hb hts in_X1 hown hK hP 0 (aD_0 _ _ _ _ _ _ _) rfl 15 (by decide) (hts _ q992) (fun _ h9 => h9) rfl dX1_meets_135 ?_
                    refine lv_aload_n hx hb dX1_meets_138 rfl (lv_at hl 3 rfl) ?_
                    refine va_get (D := G) (ci := 0) (v := .ref (ad 39)) (C := RX1) (T := TX1) (N := 21) hx hb hts in_X1 hown hK hP 0 (aD_0 _ _ _ _ _ _ _) rfl 5 (by decide) (hts _ q982) (fun _ h9 => h9) rfl dX1_meets_139 ?_
                    refine lv_iload_n hx hb dX1_meets_142 rfl (lv_at hl 1 rfl) ?_
                    refine li_iald (g := gl71) hx hb hK hP 39 0 (aD_39 _ _ _ _ _ _ _) rfl (by omega) (by omega) (by decide) dX1_meets_143 ?_
                    refine kM (va_runV (As := [.ref (ad 48), .int (ii (gl71 j1))]) (rest := []) ⟨hx, hb, hml, hown, hts⟩ ((m_caught l G ad ty hv σ (up (up (up (up (up (up (up (up ς 11 (dcw (me k1) wT)) 12 (dcq (me k1) qT)) 0 gl71) 1 gm71) 2 (sc (nl71))) 6 lb) 7 mf) 8 (sc (nb))) κ95 cs (gl71 j1) (hleg.1)) H.size) (cwV 2 hts (lw_V q726 q728 qs35 q76 q729) rfl rfl rfl (by decide +kernel) ⟨Nat.le_of_ble_eq_true rfl, Nat.le_of_ble_eq_true rfl⟩) (pvM (r := (RX1, TX1, 21)) hK hP hD hX 0 (aD_0 _ _ _ _ _ _ _) rfl) rfl rfl hl.1 rfl (lv_room (Nat.le_of_ble_eq_true rfl)) dX1_meets_144 ⟨Nat.le_of_ble_eq_true rfl, Nat.le_of_ble_eq_true rfl⟩) hD hS hA (fun v ws1 H locs hv hP hD hS => ?_)
                    obtain ⟨κ144, rfl, rfl⟩ := hv
                    have hP : va_P G gcl (wD ad ty hv σ (up (up (up (up (up (up (up (up ς 11 (dcw (me k1) wT)) 12 (dcq (me k1) qT)) 0 gl71) 1 gm71) 2 (sc (nl71))) 6 lb) 7 mf) 8 (sc (nb))) κ144 ++ cs) H := hP
                    have hD : va_D A (wD ad ty hv σ (up (up (up (up (up (up (up (up ς 11 (dcw (me k1) wT)) 12 (dcq (me k1) qT)) 0 gl71) 1 gm71) 2 (sc (nl71))) 6 lb) 7 mf) 8 (sc (nb))) κ144 ++ cs) := hD
                    refine li_topx (z := nxc (me k1) (gl71 j1)) (congrArg ii (nxC_dc _ _ _)) ?_
                    refine lv_istore (lv' := [(4, .int (ii (nxc (me k1) (gl71 j1)))), (3, .int (ii (nx (me k1) (gl71 j1)))), (2, .int (ii j1)), (1, .int (ii k1)), (0, .ref (ad 0))]) hx hb dX1_meets_147 hl (by decide) rfl (fun ls hl => ?_)
                    have hny := nxc_in (c := me k1) hleg.1
                    obtain ⟨hny0, hny1⟩ := id hny
                    have hru := hMd.rg hny
                    refine lv_aload_n hx hb dX1_meets_149 rfl (lv_at hl 4 rfl) ?_
                    refine va_get (D := G) (ci := 0) (v := .ref (ad 44)) (C := RX1) (T := TX1) (N := 21) hx hb hts in_X1 hown hK hP 0 (aD_0 _ _ _ _ _ _ _) rfl 10 (by decide) (hts _ q987) (fun _ h9 => h9) rfl dX1_meets_150 ?_
                    refine lv_iload hx hb dX1_meets_153 (lv_at hl 0 rfl) ?_
                    refine li_iald (g := lb) hx hb hK hP 44 0 (aD_44 _ _ _ _ _ _ _) rfl (by omega) (by omega) (by decide) dX1_meets_155 ?_
                    refine lv_ldc (v := ii 1000000000) hx hb hown (hts _ q617) dX1_meets_156 ?_
                    refine li_icmp_ne (tgt := 168) hx hb ⟨by omega, by omega⟩ ⟨by decide, by decide⟩ dX1_meets_158 (by decide) (fun c158 => ?_) (fun c158 => ?_)
                    · have hMz := hMd
                      have hmz := mext_t hmi hmd
                      have hsz := seenI_s (seenI_w hse (fun m => mst_w hmd)) leg_n hleg hcn ⟨hxd, fun _ => c158⟩
                      refine li_iinc (a := j1) (lv' := [(2, .int (ii (j1 + 1))), (4, .int (ii (nxc (me k1) (gl71 j1)))), (3, .int (ii (nx (me k1) (gl71 j1)))), (1, .int (ii k1)), (0, .ref (ad 0))]) hx hb dX1_meets_168 hl (k := 2) rfl (by decide) rfl (fun ls hl => ?_)
                      refine lv_goto (tgt := 76) hx hb dX1_meets_171 (by decide) ?_
                      exact ih (j1 + 1) κ144 lb mf nb (by omega) (by omega) (hMz) (hmz) (hsz) (by omega) H locs hP hD hS ls (lv_sub hl [0, 3, 4] rfl)
                    · refine lv_aload_n hx hb dX1_meets_161 rfl (lv_at hl 4 rfl) ?_
                      refine lv_iload hx hb dX1_meets_162 (lv_at hl 0 rfl) ?_
                      refine li_iconst hx hb dX1_meets_164 ?_
                      refine kM (va_runV (As := [.int (ii (nxc (me k1) (gl71 j1))), .int (ii 0)]) (rest := []) ⟨hx, hb, hml, hown, hts⟩ ((m_reaches l G ad ty hv σ (up (up (up (up (up (up (up (up ς 11 (dcw (me k1) wT)) 12 (dcq (me k1) qT)) 0 gl71) 1 gm71) 2 (sc (nl71))) 6 lb) 7 mf) 8 (sc (nb))) κ144 cs (nxc (me k1) (gl71 j1)) 0 (show inSt (nxc (me k1) (gl71 j1)) from hny) (show 0 ≤ lb (nxc (me k1) (gl71 j1)) ∧ lb (nxc (me k1) (gl71 j1)) ≤ FARc from hru) (show 0 ≤ nb ∧ (lb (nxc (me k1) (gl71 j1)) = FARc → nb < 4500) from ⟨by have := hMd.n1; omega, fun h => hMd.room hny h⟩)) H.size) (cwV 2 hts (lw_V q622 q624 qs24 q76 q625) rfl rfl rfl (by decide +kernel) ⟨Nat.le_of_ble_eq_true rfl, Nat.le_of_ble_eq_true rfl⟩) (pvM (r := (RX1, TX1, 21)) hK hP hD hX 0 (aD_0 _ _ _ _ _ _ _) rfl) rfl rfl hl.1 rfl (lv_room (Nat.le_of_ble_eq_true rfl)) dX1_meets_165 ⟨Nat.le_of_ble_eq_true rfl, Nat.le_of_ble_eq_true rfl⟩) hD hS hA (fun v ws1 H locs hv hP hD hS => ?_)
                      obtain ⟨g165, n165, rfl, rfl, hg165, hn165⟩ := hv
                      have hP : va_P G gcl (wD ad ty hv σ (up (up (up (up (up (up (up (up ς 11 (dcw (me k1) wT)) 12 (dcq (me k1) qT)) 0 gl71) 1 gm71) 2 (sc (nl71))) 7 g165) 8 (sc (n165))) 6 (ug lb (nxc (me k1) (gl71 j1)) 0)) κ144 ++ cs) H := hP
                      have hD : va_D A (wD ad ty hv σ (up (up (up (up (up (up (up (up ς 11 (dcw (me k1) wT)) 12 (dcq (me k1) qT)) 0 gl71) 1 gm71) 2 (sc (nl71))) 7 g165) 8 (sc (n165))) 6 (ug lb (nxc (me k1) (gl71 j1)) 0)) κ144 ++ cs) := hD
                      have hg165 : g165 = if lb (nxc (me k1) (gl71 j1)) = FARc then ug mf nb (nxc (me k1) (gl71 j1)) else mf := hg165
                      have hn165 : n165 = if lb (nxc (me k1) (gl71 j1)) = FARc then nb + 1 else nb := hn165
                      have hMz : Mt (E0 σ) (cdv (σ 6) (σ 7)) (ug lb (nxc (me k1) (gl71 j1)) 0) g165 n165 := by rw [hg165, hn165]; exact Mt.add hMd hmk (hmd.1 _ hmlb) (E0.stc hleg c127) hny c158
                      have hmy : mext lb mf nb (ug lb (nxc (me k1) (gl71 j1)) 0) g165 n165 := by rw [hg165, hn165]; exact mext_a mf nb c158
                      have hmz := mext_t hmi (mext_t hmd hmy)
                      have hsz := seenI_s (seenI_w hse (fun m => mst_w (mext_t hmd hmy))) leg_n hleg hcn ⟨hmy.1 _ hxd, fun _ => by rw [ug_s]; decide⟩
                      refine li_iinc (a := j1) (lv' := [(2, .int (ii (j1 + 1))), (4, .int (ii (nxc (me k1) (gl71 j1)))), (3, .int (ii (nx (me k1) (gl71 j1)))), (1, .int (ii k1)), (0, .ref (ad 0))]) hx hb dX1_meets_168 hl (k := 2) rfl (by decide) rfl (fun ls hl => ?_)
                      refine lv_goto (tgt := 76) hx hb dX1_meets_171 (by decide) ?_
                      exact ih (j1 + 1) κ144 (ug lb (nxc (me k1) (gl71 j1)) 0) g165 n165 (by omega) (by omega) (hMz) (hmz) (hsz) (by omega) H locs hP hD hS ls (lv_sub hl [0, 3, 4] rfl)
                  · refine lv_goto (tgt := 168) hx hb dX1_meets_130 (by decide) ?_
                    have hMz := hMd
                    have hmz := mext_t hmi hmd
                    have hsz := seenI_s (seenI_w hse (fun m => mst_w hmd)) leg_n hleg hcn ⟨hxd, fun q => absurd q c127⟩
                    refine li_iinc (a := j1) (lv' := [(2, .int (ii (j1 + 1))), (3, .int (ii (nx (me k1) (gl71 j1)))), (1, .int (ii k1)), (0, .ref (ad 0))]) hx hb dX1_meets_168 hl (k := 1) rfl (by decide) rfl (fun ls hl => ?_)
                    refine lv_goto (tgt := 76) hx hb dX1_meets_171 (by decide) ?_
                    exact ih (j1 + 1) κ95 lb mf nb (by omega) (by omega) (hMz) (hmz) (hsz) (by omega) H locs hP hD hS ls (lv_sub hl [0, 2, 3] rfl)
                · refine lv_aload_n hx hb dX1_meets_110 rfl (lv_at hl 3 rfl) ?_
                  refine lv_iload_n hx hb dX1_meets_111 rfl (lv_at hl 0 rfl) ?_
                  refine li_iconst hx hb dX1_meets_112 ?_
                  refine kM (va_runV (As := [.int (ii (nx (me k1) (gl71 j1))), .int (ii 0)]) (rest := []) ⟨hx, hb, hml, hown, hts⟩ ((m_reaches l G ad ty hv σ (up (up (up (up (up (up (up (up ς 11 (dcw (me k1) wT)) 12 (dcq (me k1) qT)) 0 gl71) 1 gm71) 2 (sc (nl71))) 6 lb) 7 mf) 8 (sc (nb))) κ95 cs (nx (me k1) (gl71 j1)) 0 (show inSt (nx (me k1) (gl71 j1)) from hnx) (show 0 ≤ lb (nx (me k1) (gl71 j1)) ∧ lb (nx (me k1) (gl71 j1)) ≤ FARc from hrt) (show 0 ≤ nb ∧ (lb (nx (me k1) (gl71 j1)) = FARc → nb < 4500) from ⟨by have := hMb.n1; omega, fun h => hMb.room hnx h⟩)) H.size) (cwV 2 hts (lw_V q622 q624 qs24 q76 q625) rfl rfl rfl (by decide +kernel) ⟨Nat.le_of_ble_eq_true rfl, Nat.le_of_ble_eq_true rfl⟩) (pvM (r := (RX1, TX1, 21)) hK hP hD hX 0 (aD_0 _ _ _ _ _ _ _) rfl) rfl rfl hl.1 rfl (lv_room (Nat.le_of_ble_eq_true rfl)) dX1_meets_113 ⟨Nat.le_of_ble_eq_true rfl, Nat.le_of_ble_eq_true rfl⟩) hD hS hA (fun v ws1 H locs hv hP hD hS => ?_)
                  obtain ⟨g113, n113, rfl, rfl, hg113, hn113⟩ := hv
                  have hP : va_P G gcl (wD ad ty hv σ (up (up (up (up (up (up (up (up ς 11 (dcw (me k1) wT)) 12 (dcq (me k1) qT)) 0 gl71) 1 gm71) 2 (sc (nl71))) 7 g113) 8 (sc (n113))) 6 (ug lb (nx (me k1) (gl71 j1)) 0)) κ95 ++ cs) H := hP
                  have hD : va_D A (wD ad ty hv σ (up (up (up (up (up (up (up (up ς 11 (dcw (me k1) wT)) 12 (dcq (me k1) qT)) 0 gl71) 1 gm71) 2 (sc (nl71))) 7 g113) 8 (sc (n113))) 6 (ug lb (nx (me k1) (gl71 j1)) 0)) κ95 ++ cs) := hD
                  have hg113 : g113 = if lb (nx (me k1) (gl71 j1)) = FARc then ug mf nb (nx (me k1) (gl71 j1)) else mf := hg113
                  have hn113 : n113 = if lb (nx (me k1) (gl71 j1)) = FARc then nb + 1 else nb := hn113
                  have hMd : Mt (E0 σ) (cdv (σ 6) (σ 7)) (ug lb (nx (me k1) (gl71 j1)) 0) g113 n113 := by rw [hg113, hn113]; exact Mt.add hMb hmk hmlb (E0.stp hleg) hnx c107
                  have hmd : mext lb mf nb (ug lb (nx (me k1) (gl71 j1)) 0) g113 n113 := by rw [hg113, hn113]; exact mext_a mf nb c107
                  have hxd : ug lb (nx (me k1) (gl71 j1)) 0 (nx (me k1) (gl71 j1)) ≠ FARc := by rw [ug_s]; decide
                  refine lv_aload_n hx hb dX1_meets_116 rfl (lv_at hl 3 rfl) ?_
                  refine va_get (D := G) (ci := 0) (v := .ref (ad 39)) (C := RX1) (T := TX1) (N := 21) hx hb hts in_X1 hown hK hP 0 (aD_0 _ _ _ _ _ _ _) rfl 5 (by decide) (hts _ q982) (fun _ h9 => h9) rfl dX1_meets_117 ?_
                  refine lv_iload_n hx hb dX1_meets_120 rfl (lv_at hl 1 rfl) ?_
                  refine li_iald (g := gl71) hx hb hK hP 39 0 (aD_39 _ _ _ _ _ _ _) rfl (by omega) (by omega) (by decide) dX1_meets_121 ?_
                  refine li_sipush hx hb dX1_meets_122 (by decide) ?_
                  refine li_div hx hb (by omega) (by omega) (by omega) (by omega) dX1_meets_125 ?_
                  refine li_iconst hx hb dX1_meets_126 ?_
                  refine li_icmp_eq (tgt := 133) hx hb ⟨by omega, by omega⟩ ⟨by decide, by decide⟩ dX1_meets_127 (by decide) (fun c127 => ?_) (fun c127 => ?_)
                  · refine lv_aload_n hx hb dX1_meets_133 rfl (lv_at hl 3 rfl) ?_
                    refine lv_aload_n hx hb dX1_meets_134 rfl (lv_at hl 3 rfl) ?_
                    refine va_get (D := G) (ci := 0) (v := .ref (ad 48)) (C := RX1) (T := TX1) (N := 21) hx hb hts in_X1 hown hK hP 0 (aD_0 _ _ _ _ _ _ _) rfl 15 (by decide) (hts _ q992) (fun _ h9 => h9) rfl dX1_meets_135 ?_
                    refine lv_aload_n hx hb dX1_meets_138 rfl (lv_at hl 3 rfl) ?_
                    refine va_get (D := G) (ci := 0) (v := .ref (ad 39)) (C := RX1) (T := TX1) (N := 21) hx hb hts in_X1 hown hK hP 0 (aD_0 _ _ _ _ _ _ _) rfl 5 (by decide) (hts _ q982) (fun _ h9 => h9) rfl dX1_meets_139 ?_
                    refine lv_iload_n hx hb dX1_meets_142 rfl (lv_at hl 1 rfl) ?_
                    refine li_iald (g := gl71) hx hb hK hP 39 0 (aD_39 _ _ _ _ _ _ _) rfl (by omega) (by omega) (by decide) dX1_meets_143 ?_
                    refine kM (va_runV (As := [.ref (ad 48), .int (ii (gl71 j1))]) (rest := []) ⟨hx, hb, hml, hown, hts⟩ ((m_caught l G ad ty hv σ (up (up (up (up (up (up (up (up ς 11 (dcw (me k1) wT)) 12 (dcq (me k1) qT)) 0 gl71) 1 gm71) 2 (sc (nl71))) 7 g113) 8 (sc (n113))) 6 (ug lb (nx (me k1) (gl71 j1)) 0)) κ95 cs (gl71 j1) (hleg.1)) H.size) (cwV 2 hts (lw_V q726 q728 qs35 q76 q729) rfl rfl rfl (by decide +kernel) ⟨Nat.le_of_ble_eq_true rfl, Nat.le_of_ble_eq_true rfl⟩) (pvM (r := (RX1, TX1, 21)) hK hP hD hX 0 (aD_0 _ _ _ _ _ _ _) rfl) rfl rfl hl.1 rfl (lv_room (Nat.le_of_ble_eq_true rfl)) dX1_meets_144 ⟨Nat.le_of_ble_eq_true rfl, Nat.le_of_ble_eq_true rfl⟩) hD hS hA (fun v ws1 H locs hv hP hD hS => ?_)
                    obtain ⟨κ144, rfl, rfl⟩ := hv
                    have hP : va_P G gcl (wD ad ty hv σ (up (up (up (up (up (up (up (up ς 11 (dcw (me k1) wT)) 12 (dcq (me k1) qT)) 0 gl71) 1 gm71) 2 (sc (nl71))) 7 g113) 8 (sc (n113))) 6 (ug lb (nx (me k1) (gl71 j1)) 0)) κ144 ++ cs) H := hP
                    have hD : va_D A (wD ad ty hv σ (up (up (up (up (up (up (up (up ς 11 (dcw (me k1) wT)) 12 (dcq (me k1) qT)) 0 gl71) 1 gm71) 2 (sc (nl71))) 7 g113) 8 (sc (n113))) 6 (ug lb (nx (me k1) (gl71 j1)) 0)) κ144 ++ cs) := hD
                    refine li_topx (z := nxc (me k1) (gl71 j1)) (congrArg ii (nxC_dc _ _ _)) ?_
                    refine lv_istore (lv' := [(4, .int (ii (nxc (me k1) (gl71 j1)))), (3, .int (ii (nx (me k1) (gl71 j1)))), (2, .int (ii j1)), (1, .int (ii k1)), (0, .ref (ad 0))]) hx hb dX1_meets_147 hl (by decide) rfl (fun ls hl => ?_)
                    have hny := nxc_in (c := me k1) hleg.1
                    obtain ⟨hny0, hny1⟩ := id hny
                    have hru := hMd.rg hny
                    refine lv_aload_n hx hb dX1_meets_149 rfl (lv_at hl 4 rfl) ?_
                    refine va_get (D := G) (ci := 0) (v := .ref (ad 44)) (C := RX1) (T := TX1) (N := 21) hx hb hts in_X1 hown hK hP 0 (aD_0 _ _ _ _ _ _ _) rfl 10 (by decide) (hts _ q987) (fun _ h9 => h9) rfl dX1_meets_150 ?_
                    refine lv_iload hx hb dX1_meets_153 (lv_at hl 0 rfl) ?_
                    refine li_iald (g := (ug lb (nx (me k1) (gl71 j1)) 0)) hx hb hK hP 44 0 (aD_44 _ _ _ _ _ _ _) rfl (by omega) (by omega) (by decide) dX1_meets_155 ?_
                    refine lv_ldc (v := ii 1000000000) hx hb hown (hts _ q617) dX1_meets_156 ?_
                    refine li_icmp_ne (tgt := 168) hx hb ⟨by omega, by omega⟩ ⟨by decide, by decide⟩ dX1_meets_158 (by decide) (fun c158 => ?_) (fun c158 => ?_)
                    · have hMz := hMd
                      have hmz := mext_t hmi hmd
                      have hsz := seenI_s (seenI_w hse (fun m => mst_w hmd)) leg_n hleg hcn ⟨hxd, fun _ => c158⟩
                      refine li_iinc (a := j1) (lv' := [(2, .int (ii (j1 + 1))), (4, .int (ii (nxc (me k1) (gl71 j1)))), (3, .int (ii (nx (me k1) (gl71 j1)))), (1, .int (ii k1)), (0, .ref (ad 0))]) hx hb dX1_meets_168 hl (k := 2) rfl (by decide) rfl (fun ls hl => ?_)
                      refine lv_goto (tgt := 76) hx hb dX1_meets_171 (by decide) ?_
                      exact ih (j1 + 1) κ144 (ug lb (nx (me k1) (gl71 j1)) 0) g113 n113 (by omega) (by omega) (hMz) (hmz) (hsz) (by omega) H locs hP hD hS ls (lv_sub hl [0, 3, 4] rfl)
                    · refine lv_aload_n hx hb dX1_meets_161 rfl (lv_at hl 4 rfl) ?_
                      refine lv_iload hx hb dX1_meets_162 (lv_at hl 0 rfl) ?_
                      refine li_iconst hx hb dX1_meets_164 ?_
                      refine kM (va_runV (As := [.int (ii (nxc (me k1) (gl71 j1))), .int (ii 0)]) (rest := []) ⟨hx, hb, hml, hown, hts⟩ ((m_reaches l G ad ty hv σ (up (up (up (up (up (up (up (up ς 11 (dcw (me k1) wT)) 12 (dcq (me k1) qT)) 0 gl71) 1 gm71) 2 (sc (nl71))) 7 g113) 8 (sc (n113))) 6 (ug lb (nx (me k1) (gl71 j1)) 0)) κ144 cs (nxc (me k1) (gl71 j1)) 0 (show inSt (nxc (me k1) (gl71 j1)) from hny) (show 0 ≤ (ug lb (nx (me k1) (gl71 j1)) 0) (nxc (me k1) (gl71 j1)) ∧ (ug lb (nx (me k1) (gl71 j1)) 0) (nxc (me k1) (gl71 j1)) ≤ FARc from hru) (show 0 ≤ n113 ∧ ((ug lb (nx (me k1) (gl71 j1)) 0) (nxc (me k1) (gl71 j1)) = FARc → n113 < 4500) from ⟨by have := hMd.n1; omega, fun h => hMd.room hny h⟩)) H.size) (cwV 2 hts (lw_V q622 q624 qs24 q76 q625) rfl rfl rfl (by decide +kernel) ⟨Nat.le_of_ble_eq_true rfl, Nat.le_of_ble_eq_true rfl⟩) (pvM (r := (RX1, TX1, 21)) hK hP hD hX 0 (aD_0 _ _ _ _ _ _ _) rfl) rfl rfl hl.1 rfl (lv_room (Nat.le_of_ble_eq_true rfl)) dX1_meets_165 ⟨Nat.le_of_ble_eq_true rfl, Nat.le_of_ble_eq_true rfl⟩) hD hS hA (fun v ws1 H locs hv hP hD hS => ?_)
                      obtain ⟨g165, n165, rfl, rfl, hg165, hn165⟩ := hv
                      have hP : va_P G gcl (wD ad ty hv σ (up (up (up (up (up (up (up (up ς 11 (dcw (me k1) wT)) 12 (dcq (me k1) qT)) 0 gl71) 1 gm71) 2 (sc (nl71))) 7 g165) 8 (sc (n165))) 6 (ug (ug lb (nx (me k1) (gl71 j1)) 0) (nxc (me k1) (gl71 j1)) 0)) κ144 ++ cs) H := hP
                      have hD : va_D A (wD ad ty hv σ (up (up (up (up (up (up (up (up ς 11 (dcw (me k1) wT)) 12 (dcq (me k1) qT)) 0 gl71) 1 gm71) 2 (sc (nl71))) 7 g165) 8 (sc (n165))) 6 (ug (ug lb (nx (me k1) (gl71 j1)) 0) (nxc (me k1) (gl71 j1)) 0)) κ144 ++ cs) := hD
                      have hg165 : g165 = if (ug lb (nx (me k1) (gl71 j1)) 0) (nxc (me k1) (gl71 j1)) = FARc then ug g113 n113 (nxc (me k1) (gl71 j1)) else g113 := hg165
                      have hn165 : n165 = if (ug lb (nx (me k1) (gl71 j1)) 0) (nxc (me k1) (gl71 j1)) = FARc then n113 + 1 else n113 := hn165
                      have hMz : Mt (E0 σ) (cdv (σ 6) (σ 7)) (ug (ug lb (nx (me k1) (gl71 j1)) 0) (nxc (me k1) (gl71 j1)) 0) g165 n165 := by rw [hg165, hn165]; exact Mt.add hMd hmk (hmd.1 _ hmlb) (E0.stc hleg c127) hny c158
                      have hmy : mext (ug lb (nx (me k1) (gl71 j1)) 0) g113 n113 (ug (ug lb (nx (me k1) (gl71 j1)) 0) (nxc (me k1) (gl71 j1)) 0) g165 n165 := by rw [hg165, hn165]; exact mext_a g113 n113 c158
                      have hmz := mext_t hmi (mext_t hmd hmy)
                      have hsz := seenI_s (seenI_w hse (fun m => mst_w (mext_t hmd hmy))) leg_n hleg hcn ⟨hmy.1 _ hxd, fun _ => by rw [ug_s]; decide⟩
                      refine li_iinc (a := j1) (lv' := [(2, .int (ii (j1 + 1))), (4, .int (ii (nxc (me k1) (gl71 j1)))), (3, .int (ii (nx (me k1) (gl71 j1)))), (1, .int (ii k1)), (0, .ref (ad 0))]) hx hb dX1_meets_168 hl (k := 2) rfl (by decide) rfl (fun ls hl => ?_)
                      refine lv_goto (tgt := 76) hx hb dX1_meets_171 (by decide) ?_
                      exact ih (j1 + 1) κ144 (ug (ug lb (nx (me k1) (gl71 j1)) 0) (nxc (me k1) (gl71 j1)) 0) g165 n165 (by omega) (by omega) (hMz) (hmz) (hsz) (by omega) H locs hP hD hS ls (lv_sub hl [0, 3, 4] rfl)
                  · refine lv_goto (tgt := 168) hx hb dX1_meets_130 (by decide) ?_
                    have hMz := hMd
                    have hmz := mext_t hmi hmd
                    have hsz := seenI_s (seenI_w hse (fun m => mst_w hmd)) leg_n hleg hcn ⟨hxd, fun q => absurd q c127⟩
                    refine li_iinc (a := j1) (lv' := [(2, .int (ii (j1 + 1))), (3, .int (ii (nx (me k1) (gl71 j1)))), (1, .int (ii k1)), (0, .ref (ad 0))]) hx hb dX1_meets_168 hl (k := 1) rfl (by decide) rfl (fun ls hl => ?_)
                    refine lv_goto (tgt := 76) hx hb dX1_meets_171 (by decide) ?_
                    exact ih (j1 + 1) κ95 (ug lb (nx (me k1) (gl71 j1)) 0) g113 n113 (by omega) (by omega) (hMz) (hmz) (hsz) (by omega) H locs hP hD hS ls (lv_sub hl [0, 2, 3] rfl)
          exact L76 _ 0 κ71 la me n8 (by omega) (by omega) (hM) (mext_0 _ _ _) (seenI_0 _ leg_n) (Nat.lt_succ_self _) H locs hP hD hS ls (lv_sub hl [0, 1, 2] rfl)
    exact L45 _ 0 κ (ς 0) (ς 1) (ς 2 0) (ug la0 (cdv (σ 6) (σ 7)) 0) g40 n40 (ς 11) (ς 12) (hT) (by omega) (by rw [hn40, if_pos (hla _ hst)]; decide) (by rw [hg40, hn40, if_pos (hla _ hst), if_pos (hla _ hst)]; exact Mt.start _ hst hla) (mcl_0 _ _ _) (Nat.lt_succ_self _) H locs hP hD hS ls (lv_sub hl [0, 1] rfl)
  have L7 : ∀ (n : Nat) (i1 : Int) (la0 : Int → Int) (_ : 0 ≤ i1) (_ : i1 ≤ 4500) (_ : ∀ c, 0 ≤ c → c < i1 → la0 c = FARc) (_ : (4500 - i1).toNat < n) (H : Heap) (locs : List Loc) (_ : va_P G gcl (wD ad ty hv σ (up (up ς 8 (sc (0))) 6 la0) κ ++ cs) H) (_ : va_D A (wD ad ty hv σ (up (up ς 8 (sc (0))) 6 la0) κ ++ cs)) (_ : va_S A s.heap H locs) (ls : Array Slot), lv_has ls 5 [(1, .int (ii i1)), (0, .ref (ad 0))] → W p l e (rm4 5 0 0 120) s m args below meth c H locs 0 0 Q (F0 m 7 ls []) := by
    intro n
    induction n with
    | zero =>
      intro i1 la0 hi0 hi1 hla hm
      exact absurd hm (Nat.not_lt_zero _)
    | succ n ih =>
      intro i1 la0 hi0 hi1 hla hm H locs hP hD hS ls hl
      refine lv_iload_n hx hb dX1_meets_7 rfl (lv_at hl 0 rfl) ?_
      refine li_sipush hx hb dX1_meets_8 (by decide) ?_
      refine li_icmp_ge (tgt := 28) hx hb ⟨by omega, by omega⟩ ⟨by decide, by decide⟩ dX1_meets_11 (by decide) (fun c11 => ?_) (fun c11 => ?_)
      · exact X7 i1 la0 (fun c h => hla c h.1 (Int.lt_of_lt_of_le h.2 c11)) H locs hP hD hS ls (lv_sub hl [1] rfl)
      · refine lv_aload_n hx hb dX1_meets_14 rfl (lv_at hl 1 rfl) ?_
        refine va_get (D := G) (ci := 0) (v := .ref (ad 44)) (C := RX1) (T := TX1) (N := 21) hx hb hts in_X1 hown hK hP 0 (aD_0 _ _ _ _ _ _ _) rfl 10 (by decide) (hts _ q987) (fun _ h9 => h9) rfl dX1_meets_15 ?_
        refine lv_iload_n hx hb dX1_meets_18 rfl (lv_at hl 0 rfl) ?_
        refine lv_ldc (v := ii 1000000000) hx hb hown (hts _ q617) dX1_meets_19 ?_
        refine li_iast (g := la0) (W2 := wD ad ty hv σ (up (up ς 8 (sc (0))) 6 (ug la0 i1 1000000000)) κ ++ cs) hx hb hK hP hD hS 44 0 (aD_44 _ _ _ _ _ _ _) rfl (by omega) (by omega) (by decide) rfl dX1_meets_21 (fun H locs hP hD hS => ?_)
        refine li_iinc (a := i1) (lv' := [(1, .int (ii (i1 + 1))), (0, .ref (ad 0))]) hx hb dX1_meets_22 hl (k := 0) rfl (by decide) rfl (fun ls hl => ?_)
        refine lv_goto (tgt := 7) hx hb dX1_meets_25 (by decide) ?_
        exact ih (i1 + 1) (ug la0 i1 1000000000) (by omega) (by omega) (ini_s hla) (by omega) H locs hP hD hS ls (lv_sub hl [0, 1] rfl)
  exact L7 _ 0 (ς 6) (by omega) (by omega) (fun c a b => by omega) (Nat.lt_succ_self _) H locs hP hD hS ls (lv_sub hl [0, 1] rfl)
set_option maxHeartbeats 4000000 in
theorem m_surest (l : Launch) (G : va_G) (ad : Nat → Nat) (ty : Nat → ClassId) (hv : Nat → Option Nat) (σ ς κ : mem) (cs : va_W) (c1 : Int) (s1 : Int) (hF : okF σ) (hT : wfS (ς 11) (ς 12)) (hc : inSt c1) (hok : okC σ c1) (hSo : Sought (E0 σ) s1 (ς 6) (ς 7) (ς 8 0)) (hmf : (ς 6) c1 ≠ FARc) (hsr : ∀ c, inSt c → (ς 6) c ≠ FARc → 0 ≤ (ς 17) c ∧ (ς 17) c ≤ 1000000) (hca : 0 ≤ (σ 11 0) ∧ (σ 11 0) ≤ 100) : cM l yX1_surest (ws_ yX1_surest cX1_surest 5 (some .int)) (rm4 5 0 0 120) G ty (wD ad ty hv σ ς κ ++ cs) [.ref (ad 0), .int (ii c1)] 0 0 (fun r W' => ∃ (z : Int) (ga : Int → Int) (gb : Int → Int) (na : Int) (wT : Int → Int) (qT : Int → Int) (κ' : mem), r = some (.int (ii z)) ∧ W' = wD ad ty hv σ (up (up (up (up (up ς 0 ga) 1 gb) 2 (sc (na))) 11 wT) 12 qT) κ' ++ cs ∧ (wfS wT qT) ∧ (surP σ (ς 17) c1 z)) := by
  refine cM.of (by decide) (Nat.le_of_ble_eq_true rfl) ?_
  intro p e s m args below meth c A Q H locs hQ hx hb hr hml hown hlk hname hts hK hP hD hS hA hX ls hl
  have hl : lv_has ls 5 [(0, .ref (ad 0)), (1, .int (ii c1))] := hl
  obtain ⟨hW, hWS, hlg⟩ := id hF
  obtain ⟨hw0, hw1, hw2, hw3, hw4, hw5, h8a, h8b, h9a, h9b, h10a, h10b⟩ := id hW
  obtain ⟨hs0, hs1⟩ := id hWS
  obtain ⟨hca0, hca1⟩ := id hca
  have hT2 : wfS (dcw c1 (ς 11)) (dcq c1 (ς 12)) := ⟨dcw_b hT.1, dcq_b hT.2⟩
  refine lv_aload_n hx hb dX1_surest_0 rfl (lv_at hl 0 rfl) ?_
  refine va_get (D := G) (ci := 0) (v := .ref (ad 48)) (C := RX1) (T := TX1) (N := 21) hx hb hts in_X1 hown hK hP 0 (aD_0 _ _ _ _ _ _ _) rfl 15 (by decide) (hts _ q992) (fun _ h9 => h9) rfl dX1_surest_1 ?_
  refine lv_iload_n hx hb dX1_surest_4 rfl (lv_at hl 1 rfl) ?_
  refine kM (va_runV (As := [.int (ii c1)]) (rest := []) ⟨hx, hb, hml, hown, hts⟩ (m_decodes l G ty (wD ad ty hv σ ς κ ++ cs) (fun k => 48 + k) (fun k => ad (48 + k)) (ς 11) (ς 12) c1 ⟨rfl, rfl, rfl⟩ hc (by decide) (by decide) (by decide) (by decide) H.size) (cwV 1 hts (lw_V q626 q627 q628 q78 q629) rfl rfl rfl (by decide +kernel) ⟨Nat.le_of_ble_eq_true rfl, Nat.le_of_ble_eq_true rfl⟩) (pvM (r := (RX3, TX3, 2)) hK hP hD hX 48 (aD_48 _ _ _ _ _ _ _) rfl) rfl rfl hl.1 rfl (lv_room (Nat.le_of_ble_eq_true rfl)) dX1_surest_5 ⟨Nat.le_of_ble_eq_true rfl, Nat.le_of_ble_eq_true rfl⟩) hD hS hA (fun v ws1 H locs hv hP hD hS => ?_)
  obtain ⟨rfl, rfl⟩ := hv
  have hP : va_P G gcl (wD ad ty hv σ (up (up ς 11 (dcw c1 (ς 11))) 12 (dcq c1 (ς 12))) κ ++ cs) H := hP
  have hD : va_D A (wD ad ty hv σ (up (up ς 11 (dcw c1 (ς 11))) 12 (dcq c1 (ς 12))) κ ++ cs) := hD
  refine lv_aload_n hx hb dX1_surest_8 rfl (lv_at hl 0 rfl) ?_
  refine lv_aload_n hx hb dX1_surest_9 rfl (lv_at hl 0 rfl) ?_
  refine va_get (D := G) (ci := 0) (v := .ref (ad 48)) (C := RX1) (T := TX1) (N := 21) hx hb hts in_X1 hown hK hP 0 (aD_0 _ _ _ _ _ _ _) rfl 15 (by decide) (hts _ q992) (fun _ h9 => h9) rfl dX1_surest_10 ?_
  refine kM (va_runV (As := [.ref (ad 48)]) (rest := []) ⟨hx, hb, hml, hown, hts⟩ (m_listsT l G ad ty hv σ (up (up ς 11 (dcw c1 (ς 11))) 12 (dcq c1 (ς 12))) κ cs hW (show wfS (dcw c1 (ς 11)) (dcq c1 (ς 12)) from ⟨dcw_b hT.1, dcq_b hT.2⟩) (show (0 < σ 9 0 → 0 ≤ dcw c1 (ς 11) 0 ∧ dcw c1 (ς 11) 0 < σ 8 0) ∧ (1 < σ 9 0 → 0 ≤ dcw c1 (ς 11) 1 ∧ dcw c1 (ς 11) 1 < σ 8 0) ∧ (2 < σ 9 0 → 0 ≤ dcw c1 (ς 11) 2 ∧ dcw c1 (ς 11) 2 < σ 8 0) from okC_dc hok) H.size) (cwV 1 hts (lw_V q545 q547 qs19 q76 q548) rfl rfl rfl (by decide +kernel) ⟨Nat.le_of_ble_eq_true rfl, Nat.le_of_ble_eq_true rfl⟩) (pvM (r := (RX1, TX1, 21)) hK hP hD hX 0 (aD_0 _ _ _ _ _ _ _) rfl) rfl rfl hl.1 rfl (lv_room (Nat.le_of_ble_eq_true rfl)) dX1_surest_13 ⟨Nat.le_of_ble_eq_true rfl, Nat.le_of_ble_eq_true rfl⟩) hD hS hA (fun v ws1 H locs hv hP hD hS => ?_)
  obtain ⟨gl13, gm13, nl13, κ13, rfl, rfl, hLI13, hn013, hn113⟩ := hv
  have hP : va_P G gcl (wD ad ty hv σ (up (up (up (up (up ς 11 (dcw c1 (ς 11))) 12 (dcq c1 (ς 12))) 0 gl13) 1 gm13) 2 (sc (nl13))) κ13 ++ cs) H := hP
  have hD : va_D A (wD ad ty hv σ (up (up (up (up (up ς 11 (dcw c1 (ς 11))) 12 (dcq c1 (ς 12))) 0 gl13) 1 gm13) 2 (sc (nl13))) κ13 ++ cs) := hD
  have hLI13 : LI (leg σ c1) (mvV σ) gl13 gm13 nl13 70000 := LI_dc hLI13
  refine li_iconst hx hb dX1_surest_16 ?_
  refine lv_istore_n (lv' := [(2, .int (ii 0)), (0, .ref (ad 0)), (1, .int (ii c1))]) hx hb dX1_surest_17 rfl hl (by decide) rfl (fun ls hl => ?_)
  refine li_iconst hx hb dX1_surest_18 ?_
  refine lv_istore_n (lv' := [(3, .int (ii 0)), (2, .int (ii 0)), (0, .ref (ad 0)), (1, .int (ii c1))]) hx hb dX1_surest_19 rfl hl (by decide) rfl (fun ls hl => ?_)
  have L20 : ∀ (n : Nat) (k1 : Int) (b1 : Int) (κa : mem) (_ : 0 ≤ k1) (_ : k1 ≤ nl13) (_ : 0 ≤ b1 ∧ b1 ≤ 1000000) (_ : seenI (leg σ c1) (fun m => chV σ (ς 17) c1 m ≤ b1) k1) (_ : b1 = 0 ∨ ∃ m, leg σ c1 m ∧ b1 = chV σ (ς 17) c1 m) (_ : (nl13 - k1).toNat < n) (H : Heap) (locs : List Loc) (_ : va_P G gcl (wD ad ty hv σ (up (up (up (up (up ς 11 (dcw c1 (ς 11))) 12 (dcq c1 (ς 12))) 0 gl13) 1 gm13) 2 (sc (nl13))) κa ++ cs) H) (_ : va_D A (wD ad ty hv σ (up (up (up (up (up ς 11 (dcw c1 (ς 11))) 12 (dcq c1 (ς 12))) 0 gl13) 1 gm13) 2 (sc (nl13))) κa ++ cs)) (_ : va_S A s.heap H locs) (ls : Array Slot), lv_has ls 5 [(3, .int (ii k1)), (2, .int (ii b1)), (0, .ref (ad 0)), (1, .int (ii c1))] → W p l e (rm4 5 0 0 120) s m args below meth c H locs 0 0 Q (F0 m 20 ls []) := by
    intro n
    induction n with
    | zero =>
      intro k1 b1 κa hk0 hk1 hbr hse hor hm
      exact absurd hm (Nat.not_lt_zero _)
    | succ n ih =>
      intro k1 b1 κa hk0 hk1 hbr hse hor hm H locs hP hD hS ls hl
      refine lv_iload_n hx hb dX1_surest_20 rfl (lv_at hl 0 rfl) ?_
      refine lv_aload_n hx hb dX1_surest_21 rfl (lv_at hl 2 rfl) ?_
      refine va_get (D := G) (ci := 0) (v := .int (ii nl13)) (C := RX1) (T := TX1) (N := 21) hx hb hts in_X1 hown hK hP 0 (aD_0 _ _ _ _ _ _ _) rfl 7 (by decide) (hts _ q984) (fun _ h9 => h9) rfl dX1_surest_22 ?_
      refine li_icmp_ge (tgt := 122) hx hb ⟨by omega, by omega⟩ ⟨by omega, by omega⟩ dX1_surest_25 (by decide) (fun c25 => ?_) (fun c25 => ?_)
      · refine lv_iload_n hx hb dX1_surest_122 rfl (lv_at hl 1 rfl) ?_
        exact eMi hQ hx hb hr hlk hP hD hS (Nat.le_of_ble_eq_true rfl) (Nat.le_of_ble_eq_true rfl) dX1_surest_123 (⟨b1, gl13, gm13, nl13, (dcw c1 (ς 11)), (dcq c1 (ς 12)), κa, rfl, rfl, hT2, ⟨hbr.1, hbr.2, seenI_all hse hLI13 leg_b (by omega), hor⟩⟩)
      · obtain ⟨hb0, hb1, hleg, hval, hcn⟩ := LI_at hLI13 (by decide) hk0 c25
        have hm0 := hleg.1.1
        have hm1 := hleg.1.2.1
        obtain ⟨hnx, hnl⟩ := hSo.next0 hc hmf (E0.stp hleg)
        have hsx := hsr _ hnx hnl
        obtain ⟨hnx0, hnx1⟩ := id hnx
        refine lv_aload_n hx hb dX1_surest_28 rfl (lv_at hl 2 rfl) ?_
        refine va_get (D := G) (ci := 0) (v := .ref (ad 55)) (C := RX1) (T := TX1) (N := 21) hx hb hts in_X1 hown hK hP 0 (aD_0 _ _ _ _ _ _ _) rfl 19 (by decide) (hts _ q996) (fun _ h9 => h9) rfl dX1_surest_29 ?_
        refine lv_aload_n hx hb dX1_surest_32 rfl (lv_at hl 2 rfl) ?_
        refine lv_aload_n hx hb dX1_surest_33 rfl (lv_at hl 2 rfl) ?_
        refine va_get (D := G) (ci := 0) (v := .ref (ad 48)) (C := RX1) (T := TX1) (N := 21) hx hb hts in_X1 hown hK hP 0 (aD_0 _ _ _ _ _ _ _) rfl 15 (by decide) (hts _ q992) (fun _ h9 => h9) rfl dX1_surest_34 ?_
        refine lv_aload_n hx hb dX1_surest_37 rfl (lv_at hl 2 rfl) ?_
        refine va_get (D := G) (ci := 0) (v := .ref (ad 39)) (C := RX1) (T := TX1) (N := 21) hx hb hts in_X1 hown hK hP 0 (aD_0 _ _ _ _ _ _ _) rfl 5 (by decide) (hts _ q982) (fun _ h9 => h9) rfl dX1_surest_38 ?_
        refine lv_iload_n hx hb dX1_surest_41 rfl (lv_at hl 0 rfl) ?_
        refine li_iald (g := gl13) hx hb hK hP 39 0 (aD_39 _ _ _ _ _ _ _) rfl (by omega) (by omega) (by decide) dX1_surest_42 ?_
        refine kM (va_runV (As := [.ref (ad 48), .int (ii (gl13 k1))]) (rest := [.ref (ad 55)]) ⟨hx, hb, hml, hown, hts⟩ ((m_behind l G ad ty hv σ (up (up (up (up (up ς 11 (dcw c1 (ς 11))) 12 (dcq c1 (ς 12))) 0 gl13) 1 gm13) 2 (sc (nl13))) κa cs (gl13 k1) (hleg.1)) H.size) (cwV 2 hts (lw_V q630 q632 qs25 q76 q633) rfl rfl rfl (by decide +kernel) ⟨Nat.le_of_ble_eq_true rfl, Nat.le_of_ble_eq_true rfl⟩) (pvM (r := (RX1, TX1, 21)) hK hP hD hX 0 (aD_0 _ _ _ _ _ _ _) rfl) rfl rfl hl.1 rfl (lv_room (Nat.le_of_ble_eq_true rfl)) dX1_surest_43 ⟨Nat.le_of_ble_eq_true rfl, Nat.le_of_ble_eq_true rfl⟩) hD hS hA (fun v ws1 H locs hv hP hD hS => ?_)
        obtain ⟨κ43, rfl, rfl⟩ := hv
        have hP : va_P G gcl (wD ad ty hv σ (up (up (up (up (up ς 11 (dcw c1 (ς 11))) 12 (dcq c1 (ς 12))) 0 gl13) 1 gm13) 2 (sc (nl13))) κ43 ++ cs) H := hP
        have hD : va_D A (wD ad ty hv σ (up (up (up (up (up ς 11 (dcw c1 (ς 11))) 12 (dcq c1 (ς 12))) 0 gl13) 1 gm13) 2 (sc (nl13))) κ43 ++ cs) := hD
        refine li_topx (z := nx c1 (gl13 k1)) (congrArg ii (nxS_dc _ _ _ _)) ?_
        refine li_iald (g := (ς 17)) hx hb hK hP 55 0 (aD_55 _ _ _ _ _ _ _) rfl (by omega) (by omega) (by decide) dX1_surest_46 ?_
        refine lv_istore (lv' := [(4, .int (ii (ς 17 (nx c1 (gl13 k1))))), (3, .int (ii k1)), (2, .int (ii b1)), (0, .ref (ad 0)), (1, .int (ii c1))]) hx hb dX1_surest_47 hl (by decide) rfl (fun ls hl => ?_)
        refine lv_aload_n hx hb dX1_surest_49 rfl (lv_at hl 3 rfl) ?_
        refine va_get (D := G) (ci := 0) (v := .ref (ad 39)) (C := RX1) (T := TX1) (N := 21) hx hb hts in_X1 hown hK hP 0 (aD_0 _ _ _ _ _ _ _) rfl 5 (by decide) (hts _ q982) (fun _ h9 => h9) rfl dX1_surest_50 ?_
        refine lv_iload_n hx hb dX1_surest_53 rfl (lv_at hl 1 rfl) ?_
        refine li_iald (g := gl13) hx hb hK hP 39 0 (aD_39 _ _ _ _ _ _ _) rfl (by omega) (by omega) (by decide) dX1_surest_54 ?_
        refine li_sipush hx hb dX1_surest_55 (by decide) ?_
        refine li_div hx hb (by omega) (by omega) (by omega) (by omega) dX1_surest_58 ?_
        refine li_iconst hx hb dX1_surest_59 ?_
        refine li_icmp_ne (tgt := 109) hx hb ⟨by omega, by omega⟩ ⟨by decide, by decide⟩ dX1_surest_60 (by decide) (fun c60 => ?_) (fun c60 => ?_)
        · have hcv : chV σ (ς 17) c1 (gl13 k1) = ς 17 (nx c1 (gl13 k1)) := chV_n c60
          refine lv_iload_n hx hb dX1_surest_109 rfl (lv_at hl 2 rfl) ?_
          refine lv_iload hx hb dX1_surest_110 (lv_at hl 0 rfl) ?_
          refine va_mmax hx hb (hml.trans hl.1.symm) hown (hts _ q735) (hts _ q736) (hts _ q94) (hts _ q737) (Nat.le_of_ble_eq_true rfl) (Nat.le_of_ble_eq_true rfl) (Nat.le_of_ble_eq_true rfl) (Nat.le_of_ble_eq_true rfl) dX1_surest_112 ?_
          refine li_topx (z := upper b1 (ς 17 (nx c1 (gl13 k1)))) (ii_max ⟨by omega, by omega⟩ ⟨by omega, by omega⟩) ?_
          refine lv_istore_n (lv' := [(2, .int (ii (upper b1 (ς 17 (nx c1 (gl13 k1)))))), (4, .int (ii (ς 17 (nx c1 (gl13 k1))))), (3, .int (ii k1)), (0, .ref (ad 0)), (1, .int (ii c1))]) hx hb dX1_surest_115 rfl hl (by decide) rfl (fun ls hl => ?_)
          refine li_iinc (a := k1) (lv' := [(3, .int (ii (k1 + 1))), (2, .int (ii (upper b1 (ς 17 (nx c1 (gl13 k1)))))), (4, .int (ii (ς 17 (nx c1 (gl13 k1))))), (0, .ref (ad 0)), (1, .int (ii c1))]) hx hb dX1_surest_116 hl (k := 2) rfl (by decide) rfl (fun ls hl => ?_)
          refine lv_goto (tgt := 20) hx hb dX1_surest_119 (by decide) ?_
          exact ih (k1 + 1) (upper b1 (ς 17 (nx c1 (gl13 k1)))) κ43 (by omega) (by omega) (by unfold upper; omega) (seenI_s (seenI_w hse (fun m q => Int.le_trans q (by unfold upper; omega))) leg_n hleg hcn (by rw [hcv]; unfold upper; omega)) (by rw [← hcv]; exact upper_or2 hor hleg) (by omega) H locs hP hD hS ls (lv_sub hl [0, 1, 3, 4] rfl)
        · obtain ⟨hny, hyl⟩ := hSo.next0 hc hmf (E0.stc hleg c60)
          have hsy := hsr _ hny hyl
          obtain ⟨hny0, hny1⟩ := id hny
          have hmix := mix_b hca0 hca1 hsx.1 hsx.2 hsy.1 hsy.2
          refine li_bipush hx hb dX1_surest_63 (by decide) ?_
          refine lv_aload_n hx hb dX1_surest_65 rfl (lv_at hl 3 rfl) ?_
          refine va_get (D := G) (ci := 0) (v := .ref (ad 1)) (C := RX1) (T := TX1) (N := 21) hx hb hts in_X1 hown hK hP 0 (aD_0 _ _ _ _ _ _ _) rfl 0 (by decide) (hts _ q977) (fun _ h9 => h9) rfl dX1_surest_66 ?_
          refine va_get (D := G) (ci := 1) (v := .int (ii (σ 11 0))) (C := RX2) (T := TX2) (N := 13) hx hb hts in_X2 hown hK hP 1 (aD_1 _ _ _ _ _ _ _) rfl 9 (by decide) (hts _ q804) (fun _ h9 => h9) rfl dX1_surest_69 ?_
          refine li_sub hx hb dX1_surest_72 ?_
          refine lv_iload hx hb dX1_surest_73 (lv_at hl 0 rfl) ?_
          refine li_mul hx hb dX1_surest_75 ?_
          refine lv_aload_n hx hb dX1_surest_76 rfl (lv_at hl 3 rfl) ?_
          refine va_get (D := G) (ci := 0) (v := .ref (ad 1)) (C := RX1) (T := TX1) (N := 21) hx hb hts in_X1 hown hK hP 0 (aD_0 _ _ _ _ _ _ _) rfl 0 (by decide) (hts _ q977) (fun _ h9 => h9) rfl dX1_surest_77 ?_
          refine va_get (D := G) (ci := 1) (v := .int (ii (σ 11 0))) (C := RX2) (T := TX2) (N := 13) hx hb hts in_X2 hown hK hP 1 (aD_1 _ _ _ _ _ _ _) rfl 9 (by decide) (hts _ q804) (fun _ h9 => h9) rfl dX1_surest_80 ?_
          refine lv_aload_n hx hb dX1_surest_83 rfl (lv_at hl 3 rfl) ?_
          refine va_get (D := G) (ci := 0) (v := .ref (ad 55)) (C := RX1) (T := TX1) (N := 21) hx hb hts in_X1 hown hK hP 0 (aD_0 _ _ _ _ _ _ _) rfl 19 (by decide) (hts _ q996) (fun _ h9 => h9) rfl dX1_surest_84 ?_
          refine lv_aload_n hx hb dX1_surest_87 rfl (lv_at hl 3 rfl) ?_
          refine lv_aload_n hx hb dX1_surest_88 rfl (lv_at hl 3 rfl) ?_
          refine va_get (D := G) (ci := 0) (v := .ref (ad 48)) (C := RX1) (T := TX1) (N := 21) hx hb hts in_X1 hown hK hP 0 (aD_0 _ _ _ _ _ _ _) rfl 15 (by decide) (hts _ q992) (fun _ h9 => h9) rfl dX1_surest_89 ?_
          refine lv_aload_n hx hb dX1_surest_92 rfl (lv_at hl 3 rfl) ?_
          refine va_get (D := G) (ci := 0) (v := .ref (ad 39)) (C := RX1) (T := TX1) (N := 21) hx hb hts in_X1 hown hK hP 0 (aD_0 _ _ _ _ _ _ _) rfl 5 (by decide) (hts _ q982) (fun _ h9 => h9) rfl dX1_surest_93 ?_
          refine lv_iload_n hx hb dX1_surest_96 rfl (lv_at hl 1 rfl) ?_
          refine li_iald (g := gl13) hx hb hK hP 39 0 (aD_39 _ _ _ _ _ _ _) rfl (by omega) (by omega) (by decide) dX1_surest_97 ?_
          refine kM (va_runV (As := [.ref (ad 48), .int (ii (gl13 k1))]) (rest := [.ref (ad 55), .int (ii (σ 11 0)), .int (ii ((100 - (σ 11 0)) * (ς 17 (nx c1 (gl13 k1)))))]) ⟨hx, hb, hml, hown, hts⟩ ((m_caught l G ad ty hv σ (up (up (up (up (up ς 11 (dcw c1 (ς 11))) 12 (dcq c1 (ς 12))) 0 gl13) 1 gm13) 2 (sc (nl13))) κ43 cs (gl13 k1) (hleg.1)) H.size) (cwV 2 hts (lw_V q726 q728 qs35 q76 q729) rfl rfl rfl (by decide +kernel) ⟨Nat.le_of_ble_eq_true rfl, Nat.le_of_ble_eq_true rfl⟩) (pvM (r := (RX1, TX1, 21)) hK hP hD hX 0 (aD_0 _ _ _ _ _ _ _) rfl) rfl rfl hl.1 rfl (lv_room (Nat.le_of_ble_eq_true rfl)) dX1_surest_98 ⟨Nat.le_of_ble_eq_true rfl, Nat.le_of_ble_eq_true rfl⟩) hD hS hA (fun v ws1 H locs hv hP hD hS => ?_)
          obtain ⟨κ98, rfl, rfl⟩ := hv
          have hP : va_P G gcl (wD ad ty hv σ (up (up (up (up (up ς 11 (dcw c1 (ς 11))) 12 (dcq c1 (ς 12))) 0 gl13) 1 gm13) 2 (sc (nl13))) κ98 ++ cs) H := hP
          have hD : va_D A (wD ad ty hv σ (up (up (up (up (up ς 11 (dcw c1 (ς 11))) 12 (dcq c1 (ς 12))) 0 gl13) 1 gm13) 2 (sc (nl13))) κ98 ++ cs) := hD
          refine li_topx (z := nxc c1 (gl13 k1)) (congrArg ii (nxC_dc _ _ _)) ?_
          refine li_iald (g := (ς 17)) hx hb hK hP 55 0 (aD_55 _ _ _ _ _ _ _) rfl (by omega) (by omega) (by decide) dX1_surest_101 ?_
          refine li_mul hx hb dX1_surest_102 ?_
          refine li_add hx hb dX1_surest_103 ?_
          refine li_bipush hx hb dX1_surest_104 (by decide) ?_
          refine li_div hx hb (by omega) (by omega) (by omega) (by omega) dX1_surest_106 ?_
          refine lv_istore (lv' := [(4, .int (ii (((100 - (σ 11 0)) * (ς 17 (nx c1 (gl13 k1))) + ((σ 11 0) * (ς 17 (nxc c1 (gl13 k1))))) / 100))), (3, .int (ii k1)), (2, .int (ii b1)), (0, .ref (ad 0)), (1, .int (ii c1))]) hx hb dX1_surest_107 hl (by decide) rfl (fun ls hl => ?_)
          have hcv : chV σ (ς 17) c1 (gl13 k1) = ((100 - σ 11 0) * ς 17 (nx c1 (gl13 k1)) + σ 11 0 * ς 17 (nxc c1 (gl13 k1))) / 100 := chV_3 c60
          refine lv_iload_n hx hb dX1_surest_109 rfl (lv_at hl 2 rfl) ?_
          refine lv_iload hx hb dX1_surest_110 (lv_at hl 0 rfl) ?_
          refine va_mmax hx hb (hml.trans hl.1.symm) hown (hts _ q735) (hts _ q736) (hts _ q94) (hts _ q737) (Nat.le_of_ble_eq_true rfl) (Nat.le_of_ble_eq_true rfl) (Nat.le_of_ble_eq_true rfl) (Nat.le_of_ble_eq_true rfl) dX1_surest_112 ?_
          refine li_topx (z := upper b1 (((100 - (σ 11 0)) * (ς 17 (nx c1 (gl13 k1))) + ((σ 11 0) * (ς 17 (nxc c1 (gl13 k1))))) / 100)) (ii_max ⟨by omega, by omega⟩ ⟨by omega, by omega⟩) ?_
          refine lv_istore_n (lv' := [(2, .int (ii (upper b1 (((100 - (σ 11 0)) * (ς 17 (nx c1 (gl13 k1))) + ((σ 11 0) * (ς 17 (nxc c1 (gl13 k1))))) / 100)))), (4, .int (ii (((100 - (σ 11 0)) * (ς 17 (nx c1 (gl13 k1))) + ((σ 11 0) * (ς 17 (nxc c1 (gl13 k1))))) / 100))), (3, .int (ii k1)), (0, .ref (ad 0)), (1, .int (ii c1))]) hx hb dX1_surest_115 rfl hl (by decide) rfl (fun ls hl => ?_)
          refine li_iinc (a := k1) (lv' := [(3, .int (ii (k1 + 1))), (2, .int (ii (upper b1 (((100 - (σ 11 0)) * (ς 17 (nx c1 (gl13 k1))) + ((σ 11 0) * (ς 17 (nxc c1 (gl13 k1))))) / 100)))), (4, .int (ii (((100 - (σ 11 0)) * (ς 17 (nx c1 (gl13 k1))) + ((σ 11 0) * (ς 17 (nxc c1 (gl13 k1))))) / 100))), (0, .ref (ad 0)), (1, .int (ii c1))]) hx hb dX1_surest_116 hl (k := 2) rfl (by decide) rfl (fun ls hl => ?_)
          refine lv_goto (tgt := 20) hx hb dX1_surest_119 (by decide) ?_
          exact ih (k1 + 1) (upper b1 (((100 - (σ 11 0)) * (ς 17 (nx c1 (gl13 k1))) + ((σ 11 0) * (ς 17 (nxc c1 (gl13 k1))))) / 100)) κ98 (by omega) (by omega) (by unfold upper; omega) (seenI_s (seenI_w hse (fun m q => Int.le_trans q (by unfold upper; omega))) leg_n hleg hcn (by rw [hcv]; unfold upper; omega)) (by rw [← hcv]; exact upper_or2 hor hleg) (by omega) H locs hP hD hS ls (lv_sub hl [0, 1, 3, 4] rfl)
  exact L20 _ 0 0 κ13 (by omega) (by omega) (by omega) (seenI_0 _ leg_n) (.inl rfl) (Nat.lt_succ_self _) H locs hP hD hS ls (lv_sub hl [0, 1, 2, 3] rfl)
set_option maxHeartbeats 4000000 in
theorem m_chance (l : Launch) (G : va_G) (ad : Nat → Nat) (ty : Nat → ClassId) (hv : Nat → Option Nat) (σ ς κ : mem) (cs : va_W)   (hF : okF σ) (hT : wfS (ς 11) (ς 12)) (hca : 0 ≤ (σ 11 0) ∧ (σ 11 0) ≤ 100) : cM l yX1_chance (ws_ yX1_chance cX1_chance 5 (some .int)) (rm4 6 0 0 144) G ty (wD ad ty hv σ ς κ ++ cs) [.ref (ad 0)] 0 0 (fun r W' => ∃ (z : Int) (ga : Int → Int) (gb : Int → Int) (na : Int) (la : Int → Int) (me : Int → Int) (n8 : Int) (wT : Int → Int) (qT : Int → Int) (su : Int → Int) (κ' : mem), r = some (.int (ii z)) ∧ W' = wD ad ty hv σ (up (up (up (up (up (up (up (up (up ς 0 ga) 1 gb) 2 (sc (na))) 6 la) 7 me) 8 (sc (n8))) 11 wT) 12 qT) 17 su) κ' ++ cs ∧ (wfS wT qT) ∧ (IsChance σ (cdv (σ 6) (σ 7)) z)) := by
  refine cM.of (by decide) (Nat.le_of_ble_eq_true rfl) ?_
  intro p e s m args below meth c A Q H locs hQ hx hb hr hml hown hlk hname hts hK hP hD hS hA hX ls hl
  have hl : lv_has ls 5 [(0, .ref (ad 0))] := hl
  obtain ⟨hW, hWS, hlg⟩ := id hF
  obtain ⟨hw0, hw1, hw2, hw3, hw4, hw5, h8a, h8b, h9a, h9b, h10a, h10b⟩ := id hW
  obtain ⟨hs0, hs1⟩ := id hWS
  obtain ⟨hca0, hca1⟩ := id hca
  have hst0 := (cdv_dig hWS.1 hWS.2).1
  obtain ⟨hsta, hstb⟩ := id hst0
  have hokS : okC σ (cdv (σ 6) (σ 7)) := okC_cdv hWS hlg
  refine lv_aload_n hx hb dX1_chance_0 rfl (lv_at hl 0 rfl) ?_
  refine kM (va_runV (As := []) (rest := []) ⟨hx, hb, hml, hown, hts⟩ ((m_meets l G ad ty hv σ ς κ cs (show okF σ from hF) (show wfS (ς 11) (ς 12) from hT)) H.size) (cwV 0 hts (lw_V q722 q724 qs34 q76 q725) rfl rfl rfl (by decide +kernel) ⟨Nat.le_of_ble_eq_true rfl, Nat.le_of_ble_eq_true rfl⟩) (pvM (r := (RX1, TX1, 21)) hK hP hD hX 0 (aD_0 _ _ _ _ _ _ _) rfl) rfl rfl hl.1 rfl (lv_room (Nat.le_of_ble_eq_true rfl)) dX1_chance_1 ⟨Nat.le_of_ble_eq_true rfl, Nat.le_of_ble_eq_true rfl⟩) hD hS hA (fun v ws1 H locs hv hP hD hS => ?_)
  obtain ⟨ga1, gb1, na1, la1, me1, n81, wT1, qT1, κ1, rfl, rfl, hT1, hSo1⟩ := hv
  have hP : va_P G gcl (wD ad ty hv σ (up (up (up (up (up (up (up (up ς 0 ga1) 1 gb1) 2 (sc (na1))) 6 la1) 7 me1) 8 (sc (n81))) 11 wT1) 12 qT1) κ1 ++ cs) H := hP
  have hD : va_D A (wD ad ty hv σ (up (up (up (up (up (up (up (up ς 0 ga1) 1 gb1) 2 (sc (na1))) 6 la1) 7 me1) 8 (sc (n81))) 11 wT1) 12 qT1) κ1 ++ cs) := hD
  have hT1 : wfS wT1 qT1 := hT1
  have hSo1 : Sought (E0 σ) (cdv (σ 6) (σ 7)) la1 me1 n81 := hSo1
  have hn1 := hSo1.n1
  have hn2 := hSo1.toMet.n2
  have hclR := clR_0 hSo1
  refine li_iconst hx hb dX1_chance_4 ?_
  refine lv_istore_n (lv' := [(1, .int (ii 0)), (0, .ref (ad 0))]) hx hb dX1_chance_5 rfl hl (by decide) rfl (fun ls hl => ?_)
  have X6 : ∀ (k2 : Int) (κa : mem) (s0 : Int → Int) (wT : Int → Int) (qT : Int → Int) (_ : wfS wT qT) (_ : chP σ la1 s0) (H : Heap) (locs : List Loc) (_ : va_P G gcl (wD ad ty hv σ (up (up (up (up (up (up (up (up (up ς 0 ga1) 1 gb1) 2 (sc (na1))) 6 la1) 7 me1) 8 (sc (n81))) 17 s0) 11 wT) 12 qT) κa ++ cs) H) (_ : va_D A (wD ad ty hv σ (up (up (up (up (up (up (up (up (up ς 0 ga1) 1 gb1) 2 (sc (na1))) 6 la1) 7 me1) 8 (sc (n81))) 17 s0) 11 wT) 12 qT) κa ++ cs)) (_ : va_S A s.heap H locs) (ls : Array Slot), lv_has ls 5 [(0, .ref (ad 0))] → W p l e (rm4 6 0 0 144) s m args below meth c H locs 0 0 Q (F0 m 51 ls []) := by
    intro k2 κa s0 wT qT hT hCh H locs hP hD hS ls hl
    refine li_iconst hx hb dX1_chance_51 ?_
    refine lv_istore_n (lv' := [(1, .int (ii 1)), (0, .ref (ad 0))]) hx hb dX1_chance_52 rfl hl (by decide) rfl (fun ls hl => ?_)
    have L53 : ∀ (n : Nat) (mo : Int) (κb : mem) (ga : Int → Int) (gb : Int → Int) (na : Int) (su0 : Int → Int) (wT : Int → Int) (qT : Int → Int) (_ : wfS wT qT) (_ : mo = 0 ∨ mo = 1) (_ : chP σ la1 su0) (_ : mo = 0 → stabC σ me1 su0 (-1) n81) (_ : (2 * (4500000000 - smN (msk la1 su0) 4500) + mo).toNat < n) (H : Heap) (locs : List Loc) (_ : va_P G gcl (wD ad ty hv σ (up (up (up (up (up (up (up (up (up ς 6 la1) 7 me1) 8 (sc (n81))) 0 ga) 1 gb) 2 (sc (na))) 17 su0) 11 wT) 12 qT) κb ++ cs) H) (_ : va_D A (wD ad ty hv σ (up (up (up (up (up (up (up (up (up ς 6 la1) 7 me1) 8 (sc (n81))) 0 ga) 1 gb) 2 (sc (na))) 17 su0) 11 wT) 12 qT) κb ++ cs)) (_ : va_S A s.heap H locs) (ls : Array Slot), lv_has ls 5 [(1, .int (ii mo)), (0, .ref (ad 0))] → W p l e (rm4 6 0 0 144) s m args below meth c H locs 0 0 Q (F0 m 53 ls []) := by
      intro n
      induction n with
      | zero =>
        intro mo κb ga gb na su0 wT qT hT hmo hCh hst hm
        exact absurd hm (Nat.not_lt_zero _)
      | succ n ih =>
        intro mo κb ga gb na su0 wT qT hT hmo hCh hst hm H locs hP hD hS ls hl
        have hsm := chM_b hCh
        refine lv_iload_n hx hb dX1_chance_53 rfl (lv_at hl 0 rfl) ?_
        refine li_if_eq (tgt := 144) hx hb ⟨by omega, by omega⟩ dX1_chance_54 (by decide) (fun c54 => ?_) (fun c54 => ?_)
        · refine lv_aload_n hx hb dX1_chance_144 rfl (lv_at hl 1 rfl) ?_
          refine va_get (D := G) (ci := 0) (v := .ref (ad 55)) (C := RX1) (T := TX1) (N := 21) hx hb hts in_X1 hown hK hP 0 (aD_0 _ _ _ _ _ _ _) rfl 19 (by decide) (hts _ q996) (fun _ h9 => h9) rfl dX1_chance_145 ?_
          refine lv_aload_n hx hb dX1_chance_148 rfl (lv_at hl 1 rfl) ?_
          refine va_get (D := G) (ci := 0) (v := .ref (ad 1)) (C := RX1) (T := TX1) (N := 21) hx hb hts in_X1 hown hK hP 0 (aD_0 _ _ _ _ _ _ _) rfl 0 (by decide) (hts _ q977) (fun _ h9 => h9) rfl dX1_chance_149 ?_
          refine va_get (D := G) (ci := 1) (v := .ref (ad 8)) (C := RX2) (T := TX2) (N := 13) hx hb hts in_X2 hown hK hP 1 (aD_1 _ _ _ _ _ _ _) rfl 12 (by decide) (hts _ q810) (fun _ h9 => h9) rfl dX1_chance_152 ?_
          refine kR (va_runV (As := []) (rest := [.ref (ad 55)]) ⟨hx, hb, hml, hown, hts⟩ (m_code l G ty (wD ad ty hv σ (up (up (up (up (up (up (up (up (up ς 6 la1) 7 me1) 8 (sc (n81))) 0 ga) 1 gb) 2 (sc (na))) 17 su0) 11 wT) 12 qT) κb ++ cs) (fun k => 8 + k) (fun k => ad (8 + k)) (σ 6) (σ 7) ⟨rfl, rfl, rfl⟩) (cwV 0 hts (lw_V q618 q619 q620 q78 q621) rfl rfl rfl (by decide +kernel) ⟨Nat.le_of_ble_eq_true rfl, Nat.le_of_ble_eq_true rfl⟩) (pvR (r := (RX3, TX3, 2)) hK hP hD hX 8 (aD_8 _ _ _ _ _ _ _) rfl) rfl rfl hl.1 rfl (lv_room (Nat.le_of_ble_eq_true rfl)) dX1_chance_155 ⟨Nat.le_of_ble_eq_true rfl, Nat.le_of_ble_eq_true rfl⟩) (fun v hv => ?_)
          obtain ⟨z155, rfl, rfl⟩ := hv
          refine li_iald (g := su0) hx hb hK hP 55 0 (aD_55 _ _ _ _ _ _ _) rfl (by omega) (by omega) (by decide) dX1_chance_158 ?_
          exact eMi hQ hx hb hr hlk hP hD hS (Nat.le_of_ble_eq_true rfl) (Nat.le_of_ble_eq_true rfl) dX1_chance_159 (⟨su0 (cdv (σ 6) (σ 7)), ga, gb, na, la1, me1, n81, wT, qT, su0, κb, rfl, rfl, hT, chP_e hSo1.toMet hclR hca hCh (hst c54)⟩)
        · refine li_iconst hx hb dX1_chance_57 ?_
          refine lv_istore_n (lv' := [(1, .int (ii 0)), (0, .ref (ad 0))]) hx hb dX1_chance_58 rfl hl (by decide) rfl (fun ls hl => ?_)
          refine lv_aload_n hx hb dX1_chance_59 rfl (lv_at hl 1 rfl) ?_
          refine va_get (D := G) (ci := 0) (v := .int (ii n81)) (C := RX1) (T := TX1) (N := 21) hx hb hts in_X1 hown hK hP 0 (aD_0 _ _ _ _ _ _ _) rfl 12 (by decide) (hts _ q989) (fun _ h9 => h9) rfl dX1_chance_60 ?_
          refine li_iconst hx hb dX1_chance_63 ?_
          refine li_sub hx hb dX1_chance_64 ?_
          refine lv_istore_n (lv' := [(2, .int (ii (n81 - 1))), (1, .int (ii 0)), (0, .ref (ad 0))]) hx hb dX1_chance_65 rfl hl (by decide) rfl (fun ls hl => ?_)
          have X66 : ∀ (k3 : Int) (mp : Int) (κc : mem) (ga2 : Int → Int) (gb2 : Int → Int) (na2 : Int) (su : Int → Int) (wU : Int → Int) (qU : Int → Int) (_ : wfS wU qU) (_ : mp = 0 ∨ mp = 1) (_ : (mp = 0 ∧ smN (msk la1 su) 4500 = smN (msk la1 su0) 4500) ∨ (mp = 1 ∧ smN (msk la1 su0) 4500 < smN (msk la1 su) 4500)) (_ : chP σ la1 su) (_ : mp = 0 → stabC σ me1 su (-1) n81) (H : Heap) (locs : List Loc) (_ : va_P G gcl (wD ad ty hv σ (up (up (up (up (up (up (up (up (up ς 6 la1) 7 me1) 8 (sc (n81))) 0 ga2) 1 gb2) 2 (sc (na2))) 17 su) 11 wU) 12 qU) κc ++ cs) H) (_ : va_D A (wD ad ty hv σ (up (up (up (up (up (up (up (up (up ς 6 la1) 7 me1) 8 (sc (n81))) 0 ga2) 1 gb2) 2 (sc (na2))) 17 su) 11 wU) 12 qU) κc ++ cs)) (_ : va_S A s.heap H locs) (ls : Array Slot), lv_has ls 5 [(1, .int (ii mp)), (0, .ref (ad 0))] → W p l e (rm4 6 0 0 144) s m args below meth c H locs 0 0 Q (F0 m 141 ls []) := by
            intro k3 mp κc ga2 gb2 na2 su wU qU hT hmo2 hdec hCh hst H locs hP hD hS ls hl
            have hsm2 := chM_b hCh
            refine lv_goto (tgt := 53) hx hb dX1_chance_141 (by decide) ?_
            exact ih mp κc ga2 gb2 na2 su wU qU (hT) (by omega) (hCh) (hst) (by omega) H locs hP hD hS ls (lv_sub hl [0, 1] rfl)
          have L66 : ∀ (n : Nat) (k3 : Int) (mp : Int) (κc : mem) (ga2 : Int → Int) (gb2 : Int → Int) (na2 : Int) (su : Int → Int) (wU : Int → Int) (qU : Int → Int) (_ : wfS wU qU) (_ : -1 ≤ k3) (_ : k3 < n81) (_ : (mp = 0 ∧ smN (msk la1 su) 4500 = smN (msk la1 su0) 4500) ∨ (mp = 1 ∧ smN (msk la1 su0) 4500 < smN (msk la1 su) 4500)) (_ : chP σ la1 su) (_ : mp = 0 → stabC σ me1 su k3 n81) (_ : (k3 + 1).toNat < n) (H : Heap) (locs : List Loc) (_ : va_P G gcl (wD ad ty hv σ (up (up (up (up (up (up (up (up (up ς 6 la1) 7 me1) 8 (sc (n81))) 0 ga2) 1 gb2) 2 (sc (na2))) 17 su) 11 wU) 12 qU) κc ++ cs) H) (_ : va_D A (wD ad ty hv σ (up (up (up (up (up (up (up (up (up ς 6 la1) 7 me1) 8 (sc (n81))) 0 ga2) 1 gb2) 2 (sc (na2))) 17 su) 11 wU) 12 qU) κc ++ cs)) (_ : va_S A s.heap H locs) (ls : Array Slot), lv_has ls 5 [(2, .int (ii k3)), (1, .int (ii mp)), (0, .ref (ad 0))] → W p l e (rm4 6 0 0 144) s m args below meth c H locs 0 0 Q (F0 m 66 ls []) := by
            intro n
            induction n with
            | zero =>
              intro k3 mp κc ga2 gb2 na2 su wU qU hT hk3 hk4 hmp hCh hst hm
              exact absurd hm (Nat.not_lt_zero _)
            | succ n ih =>
              intro k3 mp κc ga2 gb2 na2 su wU qU hT hk3 hk4 hmp hCh hst hm H locs hP hD hS ls hl
              refine lv_iload_n hx hb dX1_chance_66 rfl (lv_at hl 0 rfl) ?_
              refine li_if_lt (tgt := 141) hx hb ⟨by omega, by omega⟩ dX1_chance_67 (by decide) (fun c67 => ?_) (fun c67 => ?_)
              · exact X66 k3 mp κc ga2 gb2 na2 su wU qU (hT) (by omega) (hmp) (hCh) (fun q => by have := hst q; rw [show k3 = -1 by omega] at this; exact this) H locs hP hD hS ls (lv_sub hl [1, 2] rfl)
              · have hmk := (hSo1.mt k3 c67 (by omega)).1
                have hmf := (hSo1.mt k3 c67 (by omega)).2
                obtain ⟨hmk0, hmk1⟩ := id hmk
                have hg01 := hCh.1 _ hmk hmf
                refine lv_aload_n hx hb dX1_chance_70 rfl (lv_at hl 2 rfl) ?_
                refine va_get (D := G) (ci := 0) (v := .ref (ad 45)) (C := RX1) (T := TX1) (N := 21) hx hb hts in_X1 hown hK hP 0 (aD_0 _ _ _ _ _ _ _) rfl 11 (by decide) (hts _ q988) (fun _ h9 => h9) rfl dX1_chance_71 ?_
                refine lv_iload_n hx hb dX1_chance_74 rfl (lv_at hl 0 rfl) ?_
                refine li_iald (g := me1) hx hb hK hP 45 0 (aD_45 _ _ _ _ _ _ _) rfl (by omega) (by omega) (by decide) dX1_chance_75 ?_
                refine lv_istore_n (lv' := [(3, .int (ii (me1 k3))), (2, .int (ii k3)), (1, .int (ii mp)), (0, .ref (ad 0))]) hx hb dX1_chance_76 rfl hl (by decide) rfl (fun ls hl => ?_)
                refine lv_aload_n hx hb dX1_chance_77 rfl (lv_at hl 3 rfl) ?_
                refine va_get (D := G) (ci := 0) (v := .ref (ad 55)) (C := RX1) (T := TX1) (N := 21) hx hb hts in_X1 hown hK hP 0 (aD_0 _ _ _ _ _ _ _) rfl 19 (by decide) (hts _ q996) (fun _ h9 => h9) rfl dX1_chance_78 ?_
                refine lv_iload_n hx hb dX1_chance_81 rfl (lv_at hl 0 rfl) ?_
                refine li_iald (g := su) hx hb hK hP 55 0 (aD_55 _ _ _ _ _ _ _) rfl (by omega) (by omega) (by decide) dX1_chance_82 ?_
                refine lv_ldcw (v := ii 1000000) hx hb hown (hts _ q730) dX1_chance_83 ?_
                refine li_icmp_ne (tgt := 92) hx hb ⟨by omega, by omega⟩ ⟨by decide, by decide⟩ dX1_chance_86 (by decide) (fun c86 => ?_) (fun c86 => ?_)
                · refine lv_aload_n hx hb dX1_chance_92 rfl (lv_at hl 3 rfl) ?_
                  refine lv_iload_n hx hb dX1_chance_93 rfl (lv_at hl 0 rfl) ?_
                  refine kM (va_runV (As := [.int (ii (me1 k3))]) (rest := []) ⟨hx, hb, hml, hown, hts⟩ ((m_surest l G ad ty hv σ (up (up (up (up (up (up (up (up (up ς 6 la1) 7 me1) 8 (sc (n81))) 0 ga2) 1 gb2) 2 (sc (na2))) 17 su) 11 wU) 12 qU) κc cs (me1 k3) _ (show okF σ from hF) (show wfS wU qU from hT) (show inSt (me1 k3) from hmk) (show okC σ (me1 k3) from hSo1.toMet.okc0 hokS hmk hmf) hSo1 (show la1 (me1 k3) ≠ FARc from hmf) (show ∀ c, inSt c → la1 c ≠ FARc → 0 ≤ su c ∧ su c ≤ 1000000 from hCh.1) (show 0 ≤ (σ 11 0) ∧ (σ 11 0) ≤ 100 from hca)) H.size) (cwV 1 hts (lw_V q731 q733 qs36 q76 q734) rfl rfl rfl (by decide +kernel) ⟨Nat.le_of_ble_eq_true rfl, Nat.le_of_ble_eq_true rfl⟩) (pvM (r := (RX1, TX1, 21)) hK hP hD hX 0 (aD_0 _ _ _ _ _ _ _) rfl) rfl rfl hl.1 rfl (lv_room (Nat.le_of_ble_eq_true rfl)) dX1_chance_94 ⟨Nat.le_of_ble_eq_true rfl, Nat.le_of_ble_eq_true rfl⟩) hD hS hA (fun v ws1 H locs hv hP hD hS => ?_)
                  obtain ⟨z94, ga94, gb94, na94, wT94, qT94, κ94, rfl, rfl, hT94, hz94⟩ := hv
                  have hP : va_P G gcl (wD ad ty hv σ (up (up (up (up (up (up (up (up (up ς 6 la1) 7 me1) 8 (sc (n81))) 17 su) 0 ga94) 1 gb94) 2 (sc (na94))) 11 wT94) 12 qT94) κ94 ++ cs) H := hP
                  have hD : va_D A (wD ad ty hv σ (up (up (up (up (up (up (up (up (up ς 6 la1) 7 me1) 8 (sc (n81))) 17 su) 0 ga94) 1 gb94) 2 (sc (na94))) 11 wT94) 12 qT94) κ94 ++ cs) := hD
                  have hT94 : wfS wT94 qT94 := hT94
                  have hz94 : surP σ su (me1 k3) z94 := hz94
                  refine lv_istore (lv' := [(4, .int (ii z94)), (3, .int (ii (me1 k3))), (2, .int (ii k3)), (1, .int (ii mp)), (0, .ref (ad 0))]) hx hb dX1_chance_97 hl (by decide) rfl (fun ls hl => ?_)
                  have hzb : 0 ≤ z94 ∧ z94 ≤ 1000000 := ⟨hz94.1, hz94.2.1⟩
                  refine lv_iload_n hx hb dX1_chance_99 rfl (lv_at hl 3 rfl) ?_
                  refine lv_iload hx hb dX1_chance_100 (lv_at hl 0 rfl) ?_
                  refine lv_aload_n hx hb dX1_chance_102 rfl (lv_at hl 4 rfl) ?_
                  refine va_get (D := G) (ci := 0) (v := .ref (ad 55)) (C := RX1) (T := TX1) (N := 21) hx hb hts in_X1 hown hK hP 0 (aD_0 _ _ _ _ _ _ _) rfl 19 (by decide) (hts _ q996) (fun _ h9 => h9) rfl dX1_chance_103 ?_
                  refine lv_iload_n hx hb dX1_chance_106 rfl (lv_at hl 1 rfl) ?_
                  refine li_iald (g := su) hx hb hK hP 55 0 (aD_55 _ _ _ _ _ _ _) rfl (by omega) (by omega) (by decide) dX1_chance_107 ?_
                  refine li_icmp_le (tgt := 115) hx hb (surP_rg hz94) ⟨by omega, by omega⟩ dX1_chance_108 (by decide) (fun c108 => ?_) (fun c108 => ?_)
                  · refine li_iconst hx hb dX1_chance_115 ?_
                    refine lv_ior hx hb dX1_chance_116 ?_
                    refine li_topx (z := mp) (ii_orm0 (by omega)) ?_
                    refine lv_istore_n (lv' := [(1, .int (ii mp)), (4, .int (ii z94)), (3, .int (ii (me1 k3))), (2, .int (ii k3)), (0, .ref (ad 0))]) hx hb dX1_chance_117 rfl hl (by decide) rfl (fun ls hl => ?_)
                    refine lv_aload_n hx hb dX1_chance_118 rfl (lv_at hl 4 rfl) ?_
                    refine va_get (D := G) (ci := 0) (v := .ref (ad 55)) (C := RX1) (T := TX1) (N := 21) hx hb hts in_X1 hown hK hP 0 (aD_0 _ _ _ _ _ _ _) rfl 19 (by decide) (hts _ q996) (fun _ h9 => h9) rfl dX1_chance_119 ?_
                    refine lv_iload_n hx hb dX1_chance_122 rfl (lv_at hl 2 rfl) ?_
                    refine lv_aload_n hx hb dX1_chance_123 rfl (lv_at hl 4 rfl) ?_
                    refine va_get (D := G) (ci := 0) (v := .ref (ad 55)) (C := RX1) (T := TX1) (N := 21) hx hb hts in_X1 hown hK hP 0 (aD_0 _ _ _ _ _ _ _) rfl 19 (by decide) (hts _ q996) (fun _ h9 => h9) rfl dX1_chance_124 ?_
                    refine lv_iload_n hx hb dX1_chance_127 rfl (lv_at hl 2 rfl) ?_
                    refine li_iald (g := su) hx hb hK hP 55 0 (aD_55 _ _ _ _ _ _ _) rfl (by omega) (by omega) (by decide) dX1_chance_128 ?_
                    refine lv_iload hx hb dX1_chance_129 (lv_at hl 1 rfl) ?_
                    refine va_mmax hx hb (hml.trans hl.1.symm) hown (hts _ q735) (hts _ q736) (hts _ q94) (hts _ q737) (Nat.le_of_ble_eq_true rfl) (Nat.le_of_ble_eq_true rfl) (Nat.le_of_ble_eq_true rfl) (Nat.le_of_ble_eq_true rfl) dX1_chance_131 ?_
                    refine li_topx (z := upper (su (me1 k3)) z94) (ii_max ⟨by omega, by omega⟩ (surP_rg hz94)) ?_
                    refine li_iast (g := su) (W2 := wD ad ty hv σ (up (up (up (up (up (up (up (up (up ς 6 la1) 7 me1) 8 (sc (n81))) 0 ga94) 1 gb94) 2 (sc (na94))) 11 wT94) 12 qT94) 17 (ug su (me1 k3) (upper (su (me1 k3)) z94))) κ94 ++ cs) hx hb hK hP hD hS 55 0 (aD_55 _ _ _ _ _ _ _) rfl (by omega) (by omega) (by decide) rfl dX1_chance_134 (fun H locs hP hD hS => ?_)
                    refine li_iinc (a := k3) (lv' := [(2, .int (ii (k3 + (-1)))), (1, .int (ii mp)), (4, .int (ii z94)), (3, .int (ii (me1 k3))), (0, .ref (ad 0))]) hx hb dX1_chance_135 hl (k := 3) rfl (by decide) rfl (fun ls hl => ?_)
                    refine lv_goto (tgt := 66) hx hb dX1_chance_138 (by decide) ?_
                    exact ih (k3 + (-1)) mp κ94 ga94 gb94 na94 (ug su (me1 k3) (upper (su (me1 k3)) z94)) wT94 qT94 (hT94) (by omega) (by omega) (by rw [ug_same (upper_l c108)]; exact hmp) (chP_s (s := 0) (n := 0) (met := la1) hCh hclR hca hmk hmf hz94) (fun q => by rw [ug_same (upper_l c108)]; exact stabC_s (hst (by omega)) (.inr (fun m hm => Int.le_trans (hz94.2.2.1 m hm) c108))) (by omega) H locs hP hD hS ls (lv_sub hl [0, 1, 4] rfl)
                  · refine li_iconst hx hb dX1_chance_111 ?_
                    refine lv_goto (tgt := 116) hx hb dX1_chance_112 (by decide) ?_
                    refine lv_ior hx hb dX1_chance_116 ?_
                    refine li_topx (z := 1) (ii_orm1 (by omega)) ?_
                    refine lv_istore_n (lv' := [(1, .int (ii 1)), (4, .int (ii z94)), (3, .int (ii (me1 k3))), (2, .int (ii k3)), (0, .ref (ad 0))]) hx hb dX1_chance_117 rfl hl (by decide) rfl (fun ls hl => ?_)
                    refine lv_aload_n hx hb dX1_chance_118 rfl (lv_at hl 4 rfl) ?_
                    refine va_get (D := G) (ci := 0) (v := .ref (ad 55)) (C := RX1) (T := TX1) (N := 21) hx hb hts in_X1 hown hK hP 0 (aD_0 _ _ _ _ _ _ _) rfl 19 (by decide) (hts _ q996) (fun _ h9 => h9) rfl dX1_chance_119 ?_
                    refine lv_iload_n hx hb dX1_chance_122 rfl (lv_at hl 2 rfl) ?_
                    refine lv_aload_n hx hb dX1_chance_123 rfl (lv_at hl 4 rfl) ?_
                    refine va_get (D := G) (ci := 0) (v := .ref (ad 55)) (C := RX1) (T := TX1) (N := 21) hx hb hts in_X1 hown hK hP 0 (aD_0 _ _ _ _ _ _ _) rfl 19 (by decide) (hts _ q996) (fun _ h9 => h9) rfl dX1_chance_124 ?_
                    refine lv_iload_n hx hb dX1_chance_127 rfl (lv_at hl 2 rfl) ?_
                    refine li_iald (g := su) hx hb hK hP 55 0 (aD_55 _ _ _ _ _ _ _) rfl (by omega) (by omega) (by decide) dX1_chance_128 ?_
                    refine lv_iload hx hb dX1_chance_129 (lv_at hl 1 rfl) ?_
                    refine va_mmax hx hb (hml.trans hl.1.symm) hown (hts _ q735) (hts _ q736) (hts _ q94) (hts _ q737) (Nat.le_of_ble_eq_true rfl) (Nat.le_of_ble_eq_true rfl) (Nat.le_of_ble_eq_true rfl) (Nat.le_of_ble_eq_true rfl) dX1_chance_131 ?_
                    refine li_topx (z := upper (su (me1 k3)) z94) (ii_max ⟨by omega, by omega⟩ (surP_rg hz94)) ?_
                    refine li_iast (g := su) (W2 := wD ad ty hv σ (up (up (up (up (up (up (up (up (up ς 6 la1) 7 me1) 8 (sc (n81))) 0 ga94) 1 gb94) 2 (sc (na94))) 11 wT94) 12 qT94) 17 (ug su (me1 k3) (upper (su (me1 k3)) z94))) κ94 ++ cs) hx hb hK hP hD hS 55 0 (aD_55 _ _ _ _ _ _ _) rfl (by omega) (by omega) (by decide) rfl dX1_chance_134 (fun H locs hP hD hS => ?_)
                    refine li_iinc (a := k3) (lv' := [(2, .int (ii (k3 + (-1)))), (1, .int (ii 1)), (4, .int (ii z94)), (3, .int (ii (me1 k3))), (0, .ref (ad 0))]) hx hb dX1_chance_135 hl (k := 3) rfl (by decide) rfl (fun ls hl => ?_)
                    refine lv_goto (tgt := 66) hx hb dX1_chance_138 (by decide) ?_
                    exact ih (k3 + (-1)) 1 κ94 ga94 gb94 na94 (ug su (me1 k3) (upper (su (me1 k3)) z94)) wT94 qT94 (hT94) (by omega) (by omega) (by have := chM_s (lab := la1) (u := su) hmk hmf c108; omega) (chP_s (s := 0) (n := 0) (met := la1) hCh hclR hca hmk hmf hz94) (fun q => by omega) (by omega) H locs hP hD hS ls (lv_sub hl [0, 1, 4] rfl)
                · refine lv_goto (tgt := 135) hx hb dX1_chance_89 (by decide) ?_
                  refine li_iinc (a := k3) (lv' := [(2, .int (ii (k3 + (-1)))), (3, .int (ii (me1 k3))), (1, .int (ii mp)), (0, .ref (ad 0))]) hx hb dX1_chance_135 hl (k := 1) rfl (by decide) rfl (fun ls hl => ?_)
                  refine lv_goto (tgt := 66) hx hb dX1_chance_138 (by decide) ?_
                  exact ih (k3 + (-1)) mp κc ga2 gb2 na2 su wU qU (hT) (by omega) (by omega) (hmp) (hCh) (fun q => stabC_s (hst q) (.inl c86)) (by omega) H locs hP hD hS ls (lv_sub hl [0, 2, 3] rfl)
          exact L66 _ (n81 - 1) 0 κb ga gb na su0 wT qT (hT) (by omega) (by omega) (.inl ⟨rfl, rfl⟩) (hCh) (fun _ => stabC_0 _ _ _ _) (Nat.lt_succ_self _) H locs hP hD hS ls (lv_sub hl [0, 1, 2] rfl)
    exact L53 _ 1 κa ga1 gb1 na1 s0 wT qT (hT) (.inr rfl) (hCh) (fun q => by omega) (Nat.lt_succ_self _) H locs hP hD hS ls (lv_sub hl [0, 1] rfl)
  have L6 : ∀ (n : Nat) (k2 : Int) (κa : mem) (s0 : Int → Int) (wT : Int → Int) (qT : Int → Int) (_ : wfS wT qT) (_ : 0 ≤ k2) (_ : k2 ≤ n81) (_ : chI (dn σ) me1 k2 s0) (_ : (n81 - k2).toNat < n) (H : Heap) (locs : List Loc) (_ : va_P G gcl (wD ad ty hv σ (up (up (up (up (up (up (up (up (up ς 0 ga1) 1 gb1) 2 (sc (na1))) 6 la1) 7 me1) 8 (sc (n81))) 17 s0) 11 wT) 12 qT) κa ++ cs) H) (_ : va_D A (wD ad ty hv σ (up (up (up (up (up (up (up (up (up ς 0 ga1) 1 gb1) 2 (sc (na1))) 6 la1) 7 me1) 8 (sc (n81))) 17 s0) 11 wT) 12 qT) κa ++ cs)) (_ : va_S A s.heap H locs) (ls : Array Slot), lv_has ls 5 [(1, .int (ii k2)), (0, .ref (ad 0))] → W p l e (rm4 6 0 0 144) s m args below meth c H locs 0 0 Q (F0 m 6 ls []) := by
    intro n
    induction n with
    | zero =>
      intro k2 κa s0 wT qT hT hk0 hk1 hci hm
      exact absurd hm (Nat.not_lt_zero _)
    | succ n ih =>
      intro k2 κa s0 wT qT hT hk0 hk1 hci hm H locs hP hD hS ls hl
      refine lv_iload_n hx hb dX1_chance_6 rfl (lv_at hl 0 rfl) ?_
      refine lv_aload_n hx hb dX1_chance_7 rfl (lv_at hl 1 rfl) ?_
      refine va_get (D := G) (ci := 0) (v := .int (ii n81)) (C := RX1) (T := TX1) (N := 21) hx hb hts in_X1 hown hK hP 0 (aD_0 _ _ _ _ _ _ _) rfl 12 (by decide) (hts _ q989) (fun _ h9 => h9) rfl dX1_chance_8 ?_
      refine li_icmp_ge (tgt := 51) hx hb ⟨by omega, by omega⟩ ⟨by omega, by omega⟩ dX1_chance_11 (by decide) (fun c11 => ?_) (fun c11 => ?_)
      · exact X6 k2 κa s0 wT qT (hT) (chI_e hSo1 hci (by omega)) H locs hP hD hS ls (lv_sub hl [1] rfl)
      · have hmk := (hSo1.mt k2 hk0 c11).1
        have hmf := (hSo1.mt k2 hk0 c11).2
        obtain ⟨hmk0, hmk1⟩ := id hmk
        refine lv_aload_n hx hb dX1_chance_14 rfl (lv_at hl 1 rfl) ?_
        refine va_get (D := G) (ci := 0) (v := .ref (ad 55)) (C := RX1) (T := TX1) (N := 21) hx hb hts in_X1 hown hK hP 0 (aD_0 _ _ _ _ _ _ _) rfl 19 (by decide) (hts _ q996) (fun _ h9 => h9) rfl dX1_chance_15 ?_
        refine lv_aload_n hx hb dX1_chance_18 rfl (lv_at hl 1 rfl) ?_
        refine va_get (D := G) (ci := 0) (v := .ref (ad 45)) (C := RX1) (T := TX1) (N := 21) hx hb hts in_X1 hown hK hP 0 (aD_0 _ _ _ _ _ _ _) rfl 11 (by decide) (hts _ q988) (fun _ h9 => h9) rfl dX1_chance_19 ?_
        refine lv_iload_n hx hb dX1_chance_22 rfl (lv_at hl 0 rfl) ?_
        refine li_iald (g := me1) hx hb hK hP 45 0 (aD_45 _ _ _ _ _ _ _) rfl (by omega) (by omega) (by decide) dX1_chance_23 ?_
        refine lv_aload_n hx hb dX1_chance_24 rfl (lv_at hl 1 rfl) ?_
        refine lv_aload_n hx hb dX1_chance_25 rfl (lv_at hl 1 rfl) ?_
        refine va_get (D := G) (ci := 0) (v := .ref (ad 45)) (C := RX1) (T := TX1) (N := 21) hx hb hts in_X1 hown hK hP 0 (aD_0 _ _ _ _ _ _ _) rfl 11 (by decide) (hts _ q988) (fun _ h9 => h9) rfl dX1_chance_26 ?_
        refine lv_iload_n hx hb dX1_chance_29 rfl (lv_at hl 0 rfl) ?_
        refine li_iald (g := me1) hx hb hK hP 45 0 (aD_45 _ _ _ _ _ _ _) rfl (by omega) (by omega) (by decide) dX1_chance_30 ?_
        refine kM (va_runV (As := [.int (ii (me1 k2))]) (rest := [.int (ii (me1 k2)), .ref (ad 55)]) ⟨hx, hb, hml, hown, hts⟩ ((m_isDown l G ad ty hv σ (up (up (up (up (up (up (up (up (up ς 0 ga1) 1 gb1) 2 (sc (na1))) 6 la1) 7 me1) 8 (sc (n81))) 17 s0) 11 wT) 12 qT) κa cs (me1 k2) (show okF σ from hF) (show wfS wT qT from hT) (show inSt (me1 k2) from hmk)) H.size) (cwV 1 hts (lw_V q638 q640 qs27 q76 q641) rfl rfl rfl (by decide +kernel) ⟨Nat.le_of_ble_eq_true rfl, Nat.le_of_ble_eq_true rfl⟩) (pvM (r := (RX1, TX1, 21)) hK hP hD hX 0 (aD_0 _ _ _ _ _ _ _) rfl) rfl rfl hl.1 rfl (lv_room (Nat.le_of_ble_eq_true rfl)) dX1_chance_31 ⟨Nat.le_of_ble_eq_true rfl, Nat.le_of_ble_eq_true rfl⟩) hD hS hA (fun v ws1 H locs hv hP hD hS => ?_)
        obtain ⟨z31, wT31, qT31, κ31, rfl, rfl, hT31, ⟨rfl, hb31⟩ | ⟨rfl, hb31⟩⟩ := hv
        · have hP : va_P G gcl (wD ad ty hv σ (up (up (up (up (up (up (up (up (up ς 0 ga1) 1 gb1) 2 (sc (na1))) 6 la1) 7 me1) 8 (sc (n81))) 17 s0) 11 wT31) 12 qT31) κ31 ++ cs) H := hP
          have hD : va_D A (wD ad ty hv σ (up (up (up (up (up (up (up (up (up ς 0 ga1) 1 gb1) 2 (sc (na1))) 6 la1) 7 me1) 8 (sc (n81))) 17 s0) 11 wT31) 12 qT31) κ31 ++ cs) := hD
          have hT31 : wfS wT31 qT31 := hT31
          have hb31 : dn σ (me1 k2) := hb31
          refine li_if_eq (tgt := 43) hx hb ⟨by decide, by decide⟩ dX1_chance_34 (by decide) (fun c34 => ?_) (fun c34 => ?_)
          · exact absurd c34 (by decide)
          · refine lv_ldcw (v := ii 1000000) hx hb hown (hts _ q730) dX1_chance_37 ?_
            refine lv_goto (tgt := 44) hx hb dX1_chance_40 (by decide) ?_
            refine li_iast (g := s0) (W2 := wD ad ty hv σ (up (up (up (up (up (up (up (up (up ς 0 ga1) 1 gb1) 2 (sc (na1))) 6 la1) 7 me1) 8 (sc (n81))) 11 wT31) 12 qT31) 17 (ug s0 (me1 k2) 1000000)) κ31 ++ cs) hx hb hK hP hD hS 55 0 (aD_55 _ _ _ _ _ _ _) rfl (by omega) (by omega) (by decide) rfl dX1_chance_44 (fun H locs hP hD hS => ?_)
            refine li_iinc (a := k2) (lv' := [(1, .int (ii (k2 + 1))), (0, .ref (ad 0))]) hx hb dX1_chance_45 hl (k := 0) rfl (by decide) rfl (fun ls hl => ?_)
            refine lv_goto (tgt := 6) hx hb dX1_chance_48 (by decide) ?_
            exact ih (k2 + 1) κ31 (ug s0 (me1 k2) 1000000) wT31 qT31 (hT31) (by omega) (by omega) (chI_s hci hb31) (by omega) H locs hP hD hS ls (lv_sub hl [0, 1] rfl)
        · have hP : va_P G gcl (wD ad ty hv σ (up (up (up (up (up (up (up (up (up ς 0 ga1) 1 gb1) 2 (sc (na1))) 6 la1) 7 me1) 8 (sc (n81))) 17 s0) 11 wT31) 12 qT31) κ31 ++ cs) H := hP
          have hD : va_D A (wD ad ty hv σ (up (up (up (up (up (up (up (up (up ς 0 ga1) 1 gb1) 2 (sc (na1))) 6 la1) 7 me1) 8 (sc (n81))) 17 s0) 11 wT31) 12 qT31) κ31 ++ cs) := hD
          have hT31 : wfS wT31 qT31 := hT31
          have hb31 : ¬ dn σ (me1 k2) := hb31
          refine li_if_eq (tgt := 43) hx hb ⟨by decide, by decide⟩ dX1_chance_34 (by decide) (fun c34 => ?_) (fun c34 => ?_)
          · refine li_iconst hx hb dX1_chance_43 ?_
            refine li_iast (g := s0) (W2 := wD ad ty hv σ (up (up (up (up (up (up (up (up (up ς 0 ga1) 1 gb1) 2 (sc (na1))) 6 la1) 7 me1) 8 (sc (n81))) 11 wT31) 12 qT31) 17 (ug s0 (me1 k2) 0)) κ31 ++ cs) hx hb hK hP hD hS 55 0 (aD_55 _ _ _ _ _ _ _) rfl (by omega) (by omega) (by decide) rfl dX1_chance_44 (fun H locs hP hD hS => ?_)
            refine li_iinc (a := k2) (lv' := [(1, .int (ii (k2 + 1))), (0, .ref (ad 0))]) hx hb dX1_chance_45 hl (k := 0) rfl (by decide) rfl (fun ls hl => ?_)
            refine lv_goto (tgt := 6) hx hb dX1_chance_48 (by decide) ?_
            exact ih (k2 + 1) κ31 (ug s0 (me1 k2) 0) wT31 qT31 (hT31) (by omega) (by omega) (chI_n hci hb31) (by omega) H locs hP hD hS ls (lv_sub hl [0, 1] rfl)
          · exact absurd c34 (by decide)
  exact L6 _ 0 κ1 (ς 17) wT1 qT1 (hT1) (by omega) (by have := hSo1.n1; omega) (chI_0 _ _ _) (Nat.lt_succ_self _) H locs hP hD hS ls (lv_sub hl [0, 1] rfl)
