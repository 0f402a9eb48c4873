/-! DownRope.lists (written by gen/d3.py) -/
set_option maxRecDepth 100000
set_option maxHeartbeats 4000000 in
theorem m_listsT (l : Launch) (G : va_G) (ad : Nat → Nat) (ty : Nat → ClassId) (hv : Nat → Option Nat) (σ ς κ : mem) (cs : va_W)  (hW : wfF σ) (hWT : wfS (ς 11) (ς 12)) (hlgT : (0 < σ 9 0 → 0 ≤ ς 11 0 ∧ ς 11 0 < σ 8 0) ∧ (1 < σ 9 0 → 0 ≤ ς 11 1 ∧ ς 11 1 < σ 8 0) ∧ (2 < σ 9 0 → 0 ≤ ς 11 2 ∧ ς 11 2 < σ 8 0)) : cM l yX1_lists (ws_ yX1_lists cX1_lists 8 none) (rm4 4 0 0 93) G ty (wD ad ty hv σ ς κ ++ cs) [.ref (ad 0), .ref (ad 48)] 0 0 (fun r W' => ∃ (g0 g1 : Int → Int) (n : Int) (κ' : mem), r = none ∧ W' = wD ad ty hv σ (up (up (up ς 0 g0) 1 g1) 2 (sc n)) κ' ++ cs ∧ LI (lgl σ (ς 11) (ς 12)) (mvV σ) g0 g1 n 70000 ∧ 0 ≤ n ∧ n ≤ 330) := by
  refine cM.of (by decide) (Nat.le_of_ble_eq_true rfl) ?_
  intro p e s m args below meth c A Q H locs hQ hx hb hr hml hown hlk hname hts hK hP hD hS hA hX ls hl
  have hl : lv_has ls 8 [(0, .ref (ad 0)), (1, .ref (ad 48))] := hl
  obtain ⟨hw0, hw1, hw2, hw3, hw4, hw5, h8a, h8b, h9a, h9b, h10a, h10b⟩ := id hW
  obtain ⟨hs0, hs1⟩ := id hWT
  have hp2 : 1 ≤ p2 (σ 9 0) ∧ p2 (σ 9 0) ≤ 8 := by have := p2_b h9a h9b; omega
  refine lv_aload_n hx hb dX1_lists_0 rfl (lv_at hl 0 rfl) ?_
  refine li_iconst hx hb dX1_lists_1 ?_
  refine va_put (D := G) (ci := 0) (v := .int (ii 0)) (ty := .int) (C := RX1) (T := TX1) (N := 21) hx hb hts in_X1 tyX1 tyX1_ok nmX1 hown hK hP hD hS 0 (aD_0 _ _ _ _ _ _ _) rfl 7 (by decide) (hts _ q984) (fun _ h9 => h9) rfl (tyX1_ok 7 (by decide)) rfl rfl (Nat.le_of_ble_eq_true rfl) dX1_lists_2 (fun H locs hP hD hS => ?_)
  have hP : va_P G gcl (wD ad ty hv σ (up ς 2 (sc (0))) κ ++ cs) H := hP
  have hD : va_D A (wD ad ty hv σ (up ς 2 (sc (0))) κ ++ cs) := hD
  refine li_iconst hx hb dX1_lists_5 ?_
  refine lv_istore_n (lv' := [(2, .int (ii 1)), (0, .ref (ad 0)), (1, .ref (ad 48))]) hx hb dX1_lists_6 rfl hl (by decide) rfl (fun ls hl => ?_)
  refine lv_iload_n hx hb dX1_lists_7 rfl (lv_at hl 0 rfl) ?_
  refine li_bipush hx hb dX1_lists_8 (by decide) ?_
  refine li_icmp_ge (tgt := 161) hx hb ⟨by decide, by decide⟩ ⟨by decide, by decide⟩ dX1_lists_10 (by decide) (fun c10 => ?_) (fun c10 => ?_)
  · exact absurd c10 (by decide)
  · refine li_iconst hx hb dX1_lists_13 ?_
    refine lv_istore_n (lv' := [(3, .int (ii 0)), (2, .int (ii 1)), (0, .ref (ad 0)), (1, .ref (ad 48))]) hx hb dX1_lists_14 rfl hl (by decide) rfl (fun ls hl => ?_)
    have X15 : ∀ (s1 : Int) (κa : mem) (ga : Int → Int) (gb : Int → Int) (na : Int) (_ : 0 ≤ na) (_ : na ≤ 80) (_ : LI (lgl σ (ς 11) (ς 12)) (mvV σ) ga gb na 20000) (H : Heap) (locs : List Loc) (_ : va_P G gcl (wD ad ty hv σ (up (up (up ς 0 ga) 1 gb) 2 (sc (na))) κa ++ cs) H) (_ : va_D A (wD ad ty hv σ (up (up (up ς 0 ga) 1 gb) 2 (sc (na))) κa ++ cs)) (_ : va_S A s.heap H locs) (ls : Array Slot), lv_has ls 8 [(2, .int (ii 1)), (0, .ref (ad 0)), (1, .ref (ad 48))] → W p l e (rm4 4 0 0 93) s m args below meth c H locs 0 0 Q (F0 m 155 ls []) := by
      intro s1 κa ga gb na hna hBa hLx H locs hP hD hS ls hl
      refine li_iinc (a := 1) (lv' := [(2, .int (ii 2)), (0, .ref (ad 0)), (1, .ref (ad 48))]) hx hb dX1_lists_155 hl (k := 0) rfl (by decide) rfl (fun ls hl => ?_)
      refine lv_goto (tgt := 7) hx hb dX1_lists_158 (by decide) ?_
      refine lv_iload_n hx hb dX1_lists_7 rfl (lv_at hl 0 rfl) ?_
      refine li_bipush hx hb dX1_lists_8 (by decide) ?_
      refine li_icmp_ge (tgt := 161) hx hb ⟨by decide, by decide⟩ ⟨by decide, by decide⟩ dX1_lists_10 (by decide) (fun c10 => ?_) (fun c10 => ?_)
      · exact absurd c10 (by decide)
      · refine li_iconst hx hb dX1_lists_13 ?_
        refine lv_istore_n (lv' := [(3, .int (ii 0)), (2, .int (ii 2)), (0, .ref (ad 0)), (1, .ref (ad 48))]) hx hb dX1_lists_14 rfl hl (by decide) rfl (fun ls hl => ?_)
        have X15 : ∀ (s1 : Int) (κa : mem) (ga : Int → Int) (gb : Int → Int) (na : Int) (_ : 0 ≤ na) (_ : na ≤ 160) (_ : LI (lgl σ (ς 11) (ς 12)) (mvV σ) ga gb na 30000) (H : Heap) (locs : List Loc) (_ : va_P G gcl (wD ad ty hv σ (up (up (up ς 0 ga) 1 gb) 2 (sc (na))) κa ++ cs) H) (_ : va_D A (wD ad ty hv σ (up (up (up ς 0 ga) 1 gb) 2 (sc (na))) κa ++ cs)) (_ : va_S A s.heap H locs) (ls : Array Slot), lv_has ls 8 [(2, .int (ii 2)), (0, .ref (ad 0)), (1, .ref (ad 48))] → W p l e (rm4 4 0 0 93) s m args below meth c H locs 0 0 Q (F0 m 155 ls []) := by
          intro s1 κa ga gb na hna hBa hLx H locs hP hD hS ls hl
          refine li_iinc (a := 2) (lv' := [(2, .int (ii 3)), (0, .ref (ad 0)), (1, .ref (ad 48))]) hx hb dX1_lists_155 hl (k := 0) rfl (by decide) rfl (fun ls hl => ?_)
          refine lv_goto (tgt := 7) hx hb dX1_lists_158 (by decide) ?_
          refine lv_iload_n hx hb dX1_lists_7 rfl (lv_at hl 0 rfl) ?_
          refine li_bipush hx hb dX1_lists_8 (by decide) ?_
          refine li_icmp_ge (tgt := 161) hx hb ⟨by decide, by decide⟩ ⟨by decide, by decide⟩ dX1_lists_10 (by decide) (fun c10 => ?_) (fun c10 => ?_)
          · exact absurd c10 (by decide)
          · refine li_iconst hx hb dX1_lists_13 ?_
            refine lv_istore_n (lv' := [(3, .int (ii 0)), (2, .int (ii 3)), (0, .ref (ad 0)), (1, .ref (ad 48))]) hx hb dX1_lists_14 rfl hl (by decide) rfl (fun ls hl => ?_)
            have X15 : ∀ (s1 : Int) (κa : mem) (ga : Int → Int) (gb : Int → Int) (na : Int) (_ : 0 ≤ na) (_ : na ≤ 200) (_ : LI (lgl σ (ς 11) (ς 12)) (mvV σ) ga gb na 40000) (H : Heap) (locs : List Loc) (_ : va_P G gcl (wD ad ty hv σ (up (up (up ς 0 ga) 1 gb) 2 (sc (na))) κa ++ cs) H) (_ : va_D A (wD ad ty hv σ (up (up (up ς 0 ga) 1 gb) 2 (sc (na))) κa ++ cs)) (_ : va_S A s.heap H locs) (ls : Array Slot), lv_has ls 8 [(2, .int (ii 3)), (0, .ref (ad 0)), (1, .ref (ad 48))] → W p l e (rm4 4 0 0 93) s m args below meth c H locs 0 0 Q (F0 m 155 ls []) := by
              intro s1 κa ga gb na hna hBa hLx H locs hP hD hS ls hl
              refine li_iinc (a := 3) (lv' := [(2, .int (ii 4)), (0, .ref (ad 0)), (1, .ref (ad 48))]) hx hb dX1_lists_155 hl (k := 0) rfl (by decide) rfl (fun ls hl => ?_)
              refine lv_goto (tgt := 7) hx hb dX1_lists_158 (by decide) ?_
              refine lv_iload_n hx hb dX1_lists_7 rfl (lv_at hl 0 rfl) ?_
              refine li_bipush hx hb dX1_lists_8 (by decide) ?_
              refine li_icmp_ge (tgt := 161) hx hb ⟨by decide, by decide⟩ ⟨by decide, by decide⟩ dX1_lists_10 (by decide) (fun c10 => ?_) (fun c10 => ?_)
              · exact absurd c10 (by decide)
              · refine li_iconst hx hb dX1_lists_13 ?_
                refine lv_istore_n (lv' := [(3, .int (ii 0)), (2, .int (ii 4)), (0, .ref (ad 0)), (1, .ref (ad 48))]) hx hb dX1_lists_14 rfl hl (by decide) rfl (fun ls hl => ?_)
                have X15 : ∀ (s1 : Int) (κa : mem) (ga : Int → Int) (gb : Int → Int) (na : Int) (_ : 0 ≤ na) (_ : na ≤ 280) (_ : LI (lgl σ (ς 11) (ς 12)) (mvV σ) ga gb na 50000) (H : Heap) (locs : List Loc) (_ : va_P G gcl (wD ad ty hv σ (up (up (up ς 0 ga) 1 gb) 2 (sc (na))) κa ++ cs) H) (_ : va_D A (wD ad ty hv σ (up (up (up ς 0 ga) 1 gb) 2 (sc (na))) κa ++ cs)) (_ : va_S A s.heap H locs) (ls : Array Slot), lv_has ls 8 [(2, .int (ii 4)), (0, .ref (ad 0)), (1, .ref (ad 48))] → W p l e (rm4 4 0 0 93) s m args below meth c H locs 0 0 Q (F0 m 155 ls []) := by
                  intro s1 κa ga gb na hna hBa hLx H locs hP hD hS ls hl
                  refine li_iinc (a := 4) (lv' := [(2, .int (ii 5)), (0, .ref (ad 0)), (1, .ref (ad 48))]) hx hb dX1_lists_155 hl (k := 0) rfl (by decide) rfl (fun ls hl => ?_)
                  refine lv_goto (tgt := 7) hx hb dX1_lists_158 (by decide) ?_
                  refine lv_iload_n hx hb dX1_lists_7 rfl (lv_at hl 0 rfl) ?_
                  refine li_bipush hx hb dX1_lists_8 (by decide) ?_
                  refine li_icmp_ge (tgt := 161) hx hb ⟨by decide, by decide⟩ ⟨by decide, by decide⟩ dX1_lists_10 (by decide) (fun c10 => ?_) (fun c10 => ?_)
                  · exact absurd c10 (by decide)
                  · refine li_iconst hx hb dX1_lists_13 ?_
                    refine lv_istore_n (lv' := [(3, .int (ii 0)), (2, .int (ii 5)), (0, .ref (ad 0)), (1, .ref (ad 48))]) hx hb dX1_lists_14 rfl hl (by decide) rfl (fun ls hl => ?_)
                    have X15 : ∀ (s1 : Int) (κa : mem) (ga : Int → Int) (gb : Int → Int) (na : Int) (_ : 0 ≤ na) (_ : na ≤ 320) (_ : LI (lgl σ (ς 11) (ς 12)) (mvV σ) ga gb na 60000) (H : Heap) (locs : List Loc) (_ : va_P G gcl (wD ad ty hv σ (up (up (up ς 0 ga) 1 gb) 2 (sc (na))) κa ++ cs) H) (_ : va_D A (wD ad ty hv σ (up (up (up ς 0 ga) 1 gb) 2 (sc (na))) κa ++ cs)) (_ : va_S A s.heap H locs) (ls : Array Slot), lv_has ls 8 [(2, .int (ii 5)), (0, .ref (ad 0)), (1, .ref (ad 48))] → W p l e (rm4 4 0 0 93) s m args below meth c H locs 0 0 Q (F0 m 155 ls []) := by
                      intro s1 κa ga gb na hna hBa hLx H locs hP hD hS ls hl
                      refine li_iinc (a := 5) (lv' := [(2, .int (ii 6)), (0, .ref (ad 0)), (1, .ref (ad 48))]) hx hb dX1_lists_155 hl (k := 0) rfl (by decide) rfl (fun ls hl => ?_)
                      refine lv_goto (tgt := 7) hx hb dX1_lists_158 (by decide) ?_
                      refine lv_iload_n hx hb dX1_lists_7 rfl (lv_at hl 0 rfl) ?_
                      refine li_bipush hx hb dX1_lists_8 (by decide) ?_
                      refine li_icmp_ge (tgt := 161) hx hb ⟨by decide, by decide⟩ ⟨by decide, by decide⟩ dX1_lists_10 (by decide) (fun c10 => ?_) (fun c10 => ?_)
                      · exact absurd c10 (by decide)
                      · refine li_iconst hx hb dX1_lists_13 ?_
                        refine lv_istore_n (lv' := [(3, .int (ii 0)), (2, .int (ii 6)), (0, .ref (ad 0)), (1, .ref (ad 48))]) hx hb dX1_lists_14 rfl hl (by decide) rfl (fun ls hl => ?_)
                        have X15 : ∀ (s1 : Int) (κa : mem) (ga : Int → Int) (gb : Int → Int) (na : Int) (_ : 0 ≤ na) (_ : na ≤ 330) (_ : LI (lgl σ (ς 11) (ς 12)) (mvV σ) ga gb na 70000) (H : Heap) (locs : List Loc) (_ : va_P G gcl (wD ad ty hv σ (up (up (up ς 0 ga) 1 gb) 2 (sc (na))) κa ++ cs) H) (_ : va_D A (wD ad ty hv σ (up (up (up ς 0 ga) 1 gb) 2 (sc (na))) κa ++ cs)) (_ : va_S A s.heap H locs) (ls : Array Slot), lv_has ls 8 [(2, .int (ii 6)), (0, .ref (ad 0)), (1, .ref (ad 48))] → W p l e (rm4 4 0 0 93) s m args below meth c H locs 0 0 Q (F0 m 155 ls []) := by
                          intro s1 κa ga gb na hna hBa hLx H locs hP hD hS ls hl
                          refine li_iinc (a := 6) (lv' := [(2, .int (ii 7)), (0, .ref (ad 0)), (1, .ref (ad 48))]) hx hb dX1_lists_155 hl (k := 0) rfl (by decide) rfl (fun ls hl => ?_)
                          refine lv_goto (tgt := 7) hx hb dX1_lists_158 (by decide) ?_
                          refine lv_iload_n hx hb dX1_lists_7 rfl (lv_at hl 0 rfl) ?_
                          refine li_bipush hx hb dX1_lists_8 (by decide) ?_
                          refine li_icmp_ge (tgt := 161) hx hb ⟨by decide, by decide⟩ ⟨by decide, by decide⟩ dX1_lists_10 (by decide) (fun c10 => ?_) (fun c10 => ?_)
                          · exact eMv hQ hx hb hr hlk hP hD hS (Nat.le_of_ble_eq_true rfl) (Nat.le_of_ble_eq_true rfl) dX1_lists_161 (⟨_, _, _, _, rfl, rfl, hLx, hna, hBa⟩)
                          · exact absurd c10 (by decide)
                        have L15 : ∀ (n : Nat) (s1 : Int) (κa : mem) (ga : Int → Int) (gb : Int → Int) (na : Int) (_ : 0 ≤ s1) (_ : s1 ≤ p2 (σ 9 0)) (_ : s1 ≤ 8) (_ : 0 ≤ na) (_ : na ≤ ib s1 320 330) (_ : LI (lgl σ (ς 11) (ς 12)) (mvV σ) ga gb na (60000 + 1000 * s1)) (_ : (8 - s1).toNat < n) (H : Heap) (locs : List Loc) (_ : va_P G gcl (wD ad ty hv σ (up (up (up ς 0 ga) 1 gb) 2 (sc (na))) κa ++ cs) H) (_ : va_D A (wD ad ty hv σ (up (up (up ς 0 ga) 1 gb) 2 (sc (na))) κa ++ cs)) (_ : va_S A s.heap H locs) (ls : Array Slot), lv_has ls 8 [(3, .int (ii s1)), (2, .int (ii 6)), (0, .ref (ad 0)), (1, .ref (ad 48))] → W p l e (rm4 4 0 0 93) s m args below meth c H locs 0 0 Q (F0 m 15 ls []) := by
                          intro n
                          induction n with
                          | zero =>
                            intro s1 κa ga gb na hs1a hs1b hs7 hna hBa hLa hm
                            exact absurd hm (Nat.not_lt_zero _)
                          | succ n ih =>
                            intro s1 κa ga gb na hs1a hs1b hs7 hna hBa hLa hm H locs hP hD hS ls hl
                            refine lv_iload_n hx hb dX1_lists_15 rfl (lv_at hl 0 rfl) ?_
                            refine li_iconst hx hb dX1_lists_16 ?_
                            refine lv_aload_n hx hb dX1_lists_17 rfl (lv_at hl 2 rfl) ?_
                            refine va_get (D := G) (ci := 0) (v := .ref (ad 1)) (C := RX1) (T := TX1) (N := 21) hx hb hts in_X1 hown hK hP 0 (aD_0 _ _ _ _ _ _ _) rfl 0 (by decide) (hts _ q977) (fun _ h9 => h9) rfl dX1_lists_18 ?_
                            refine va_get (D := G) (ci := 1) (v := .int (ii (σ 9 0))) (C := RX2) (T := TX2) (N := 13) hx hb hts in_X2 hown hK hP 1 (aD_1 _ _ _ _ _ _ _) rfl 6 (by decide) (hts _ q790) (fun _ h9 => h9) rfl dX1_lists_21 ?_
                            refine lv_ishl hx hb dX1_lists_24 ?_
                            refine li_topx (z := p2 (σ 9 0)) (ii_shl1 h9a h9b) ?_
                            refine li_icmp_ge (tgt := 155) hx hb ⟨by omega, by omega⟩ ⟨by omega, by omega⟩ dX1_lists_25 (by decide) (fun c25 => ?_) (fun c25 => ?_)
                            · exact X15 s1 κa ga gb na (by omega) (by have := ib_c s1 320 330; omega) (LI_skip hLa (by omega) (by omega) (fun x a c => lgl_set h9a h9b (by omega) (by omega))) H locs hP hD hS ls (lv_sub hl [1, 2, 3] rfl)
                            · refine lv_aload_n hx hb dX1_lists_28 rfl (lv_at hl 2 rfl) ?_
                              refine lv_iload_n hx hb dX1_lists_29 rfl (lv_at hl 0 rfl) ?_
                              refine lv_aload_n hx hb dX1_lists_30 rfl (lv_at hl 3 rfl) ?_
                              refine kR (va_runV (As := [.int (ii s1), .ref (ad 48)]) (rest := []) ⟨hx, hb, hml, hown, hts⟩ (m_ledgeOfT l G ad ty hv σ (up (up (up ς 0 ga) 1 gb) 2 (sc (na))) κa cs s1 hW hWT ⟨by omega, by omega⟩) (cwV 2 hts (lw_V q549 q551 qs20 q76 q552) rfl rfl rfl (by decide +kernel) ⟨Nat.le_of_ble_eq_true rfl, Nat.le_of_ble_eq_true rfl⟩) (pvR (r := (RX1, TX1, 21)) hK hP hD hX 0 (aD_0 _ _ _ _ _ _ _) rfl) rfl rfl hl.1 rfl (lv_room (Nat.le_of_ble_eq_true rfl)) dX1_lists_31 ⟨Nat.le_of_ble_eq_true rfl, Nat.le_of_ble_eq_true rfl⟩) (fun v hv => ?_)
                              obtain ⟨zl, rfl, hzl, hzl2⟩ := hv
                              replace hzl : -4 ≤ zl ∧ zl ≤ 4 := by omega
                              refine lv_istore (lv' := [(4, .int (ii zl)), (3, .int (ii s1)), (2, .int (ii 6)), (0, .ref (ad 0)), (1, .ref (ad 48))]) hx hb dX1_lists_34 hl (by decide) rfl (fun ls hl => ?_)
                              refine li_iconst hx hb dX1_lists_36 ?_
                              refine lv_istore (lv' := [(5, .int (ii 0)), (4, .int (ii zl)), (3, .int (ii s1)), (2, .int (ii 6)), (0, .ref (ad 0)), (1, .ref (ad 48))]) hx hb dX1_lists_37 hl (by decide) rfl (fun ls hl => ?_)
                              have X39 : ∀ (r1 : Int) (κb : mem) (gc : Int → Int) (gd : Int → Int) (nb : Int) (_ : 0 ≤ nb) (_ : nb ≤ ib (s1 + 1) 320 330) (_ : LI (lgl σ (ς 11) (ς 12)) (mvV σ) gc gd nb (60000 + 1000 * s1 + 1000)) (H : Heap) (locs : List Loc) (_ : va_P G gcl (wD ad ty hv σ (up (up (up ς 0 gc) 1 gd) 2 (sc (nb))) κb ++ cs) H) (_ : va_D A (wD ad ty hv σ (up (up (up ς 0 gc) 1 gd) 2 (sc (nb))) κb ++ cs)) (_ : va_S A s.heap H locs) (ls : Array Slot), lv_has ls 8 [(3, .int (ii s1)), (2, .int (ii 6)), (0, .ref (ad 0)), (1, .ref (ad 48))] → W p l e (rm4 4 0 0 93) s m args below meth c H locs 0 0 Q (F0 m 149 ls []) := by
                                intro r1 κb gc gd nb hnb hBb hLy H locs hP hD hS ls hl
                                refine li_iinc (a := s1) (lv' := [(3, .int (ii (s1 + 1))), (2, .int (ii 6)), (0, .ref (ad 0)), (1, .ref (ad 48))]) hx hb dX1_lists_149 hl (k := 0) rfl (by decide) rfl (fun ls hl => ?_)
                                refine lv_goto (tgt := 15) hx hb dX1_lists_152 (by decide) ?_
                                exact ih (s1 + 1) κb gc gd nb (by omega) (by omega) (by omega) (by omega) (hBb) (by rw [show (60000 + 1000 * (s1 + 1)) = 60000 + 1000 * s1 + 1000 by omega]; exact hLy) (by omega) H locs hP hD hS ls (lv_sub hl [0, 1, 2, 3] rfl)
                              have L39 : ∀ (n : Nat) (r1 : Int) (κb : mem) (gc : Int → Int) (gd : Int → Int) (nb : Int) (_ : 0 ≤ r1) (_ : r1 ≤ 2) (_ : 0 ≤ nb) (_ : nb ≤ ib s1 (320 + 5 * r1) 330) (_ : LI (lgl σ (ς 11) (ς 12)) (mvV σ) gc gd nb (60000 + 1000 * s1 + 100 * r1)) (_ : (2 - r1).toNat < n) (H : Heap) (locs : List Loc) (_ : va_P G gcl (wD ad ty hv σ (up (up (up ς 0 gc) 1 gd) 2 (sc (nb))) κb ++ cs) H) (_ : va_D A (wD ad ty hv σ (up (up (up ς 0 gc) 1 gd) 2 (sc (nb))) κb ++ cs)) (_ : va_S A s.heap H locs) (ls : Array Slot), lv_has ls 8 [(5, .int (ii r1)), (4, .int (ii zl)), (3, .int (ii s1)), (2, .int (ii 6)), (0, .ref (ad 0)), (1, .ref (ad 48))] → W p l e (rm4 4 0 0 93) s m args below meth c H locs 0 0 Q (F0 m 39 ls []) := by
                                intro n
                                induction n with
                                | zero =>
                                  intro r1 κb gc gd nb hr1a hr1b hnb hBb hLb hm
                                  exact absurd hm (Nat.not_lt_zero _)
                                | succ n ih =>
                                  intro r1 κb gc gd nb hr1a hr1b hnb hBb hLb hm H locs hP hD hS ls hl
                                  refine lv_iload hx hb dX1_lists_39 (lv_at hl 0 rfl) ?_
                                  refine lv_aload_n hx hb dX1_lists_41 rfl (lv_at hl 4 rfl) ?_
                                  refine va_get (D := G) (ci := 0) (v := .ref (ad 1)) (C := RX1) (T := TX1) (N := 21) hx hb hts in_X1 hown hK hP 0 (aD_0 _ _ _ _ _ _ _) rfl 0 (by decide) (hts _ q977) (fun _ h9 => h9) rfl dX1_lists_42 ?_
                                  refine va_get (D := G) (ci := 1) (v := .int (ii (σ 10 0))) (C := RX2) (T := TX2) (N := 13) hx hb hts in_X2 hown hK hP 1 (aD_1 _ _ _ _ _ _ _) rfl 8 (by decide) (hts _ q801) (fun _ h9 => h9) rfl dX1_lists_45 ?_
                                  refine li_icmp_lt (tgt := 56) hx hb ⟨by omega, by omega⟩ (rgi h10a h10b) dX1_lists_48 (by decide) (fun c48 => ?_) (fun c48 => ?_)
                                  · refine lv_iload_n hx hb dX1_lists_56 rfl (lv_at hl 2 rfl) ?_
                                    have J57 : ∀ (y57_0 : Int) (_ : beg σ (ς 12) zl s1 r1 y57_0 ∧ -4 ≤ y57_0 ∧ y57_0 ≤ 5) (H : Heap) (locs : List Loc) (_ : va_P G gcl (wD ad ty hv σ (up (up (up ς 0 gc) 1 gd) 2 (sc (nb))) κb ++ cs) H) (_ : va_D A (wD ad ty hv σ (up (up (up ς 0 gc) 1 gd) 2 (sc (nb))) κb ++ cs)) (_ : va_S A s.heap H locs) (ls : Array Slot), lv_has ls 8 [(5, .int (ii r1)), (4, .int (ii zl)), (3, .int (ii s1)), (2, .int (ii 6)), (0, .ref (ad 0)), (1, .ref (ad 48))] → W p l e (rm4 4 0 0 93) s m args below meth c H locs 0 0 Q (F0 m 89 ls [.int (ii y57_0)]) := by
                                      intro y57_0 hj57 H locs hP hD hS ls hl
                                      refine lv_istore (lv' := [(6, .int (ii y57_0)), (5, .int (ii r1)), (4, .int (ii zl)), (3, .int (ii s1)), (2, .int (ii 6)), (0, .ref (ad 0)), (1, .ref (ad 48))]) hx hb dX1_lists_89 hl (by decide) rfl (fun ls hl => ?_)
                                      have hfrom : ∀ x, lgl σ (ς 11) (ς 12) x → (60000 + 1000 * s1 + 100 * r1) ≤ x → x < (60000 + 1000 * s1 + 100 * r1) + 100 → x / 10 % 10 = y57_0 := fun x h a c => lgl_from h (k := 6) (s := s1) (r := r1) (by omega) (by omega) (by omega) hzl2 hj57.1
                                      refine li_iconst hx hb dX1_lists_91 ?_
                                      refine lv_istore (lv' := [(7, .int (ii 0)), (6, .int (ii y57_0)), (5, .int (ii r1)), (4, .int (ii zl)), (3, .int (ii s1)), (2, .int (ii 6)), (0, .ref (ad 0)), (1, .ref (ad 48))]) hx hb dX1_lists_92 hl (by decide) rfl (fun ls hl => ?_)
                                      have X94 : ∀ (t1 : Int) (κc : mem) (ge : Int → Int) (gf : Int → Int) (nc : Int) (_ : 0 ≤ nc) (_ : nc ≤ ib s1 (320 + 5 * (r1 + 1)) 330) (_ : LI (lgl σ (ς 11) (ς 12)) (mvV σ) ge gf nc ((60000 + 1000 * s1 + 100 * r1) + 100)) (H : Heap) (locs : List Loc) (_ : va_P G gcl (wD ad ty hv σ (up (up (up ς 0 ge) 1 gf) 2 (sc (nc))) κc ++ cs) H) (_ : va_D A (wD ad ty hv σ (up (up (up ς 0 ge) 1 gf) 2 (sc (nc))) κc ++ cs)) (_ : va_S A s.heap H locs) (ls : Array Slot), lv_has ls 8 [(5, .int (ii r1)), (4, .int (ii zl)), (3, .int (ii s1)), (2, .int (ii 6)), (0, .ref (ad 0)), (1, .ref (ad 48))] → W p l e (rm4 4 0 0 93) s m args below meth c H locs 0 0 Q (F0 m 143 ls []) := by
                                        intro t1 κc ge gf nc hnc hBc hLz H locs hP hD hS ls hl
                                        refine li_iinc (a := r1) (lv' := [(5, .int (ii (r1 + 1))), (4, .int (ii zl)), (3, .int (ii s1)), (2, .int (ii 6)), (0, .ref (ad 0)), (1, .ref (ad 48))]) hx hb dX1_lists_143 hl (k := 0) rfl (by decide) rfl (fun ls hl => ?_)
                                        refine lv_goto (tgt := 39) hx hb dX1_lists_146 (by decide) ?_
                                        exact ih (r1 + 1) κc ge gf nc (by omega) (by omega) (by omega) (hBc) (by rw [show (60000 + 1000 * s1 + 100 * (r1 + 1)) = 60000 + 1000 * s1 + 100 * r1 + 100 by omega]; exact hLz) (by omega) H locs hP hD hS ls (lv_sub hl [0, 1, 2, 3, 4, 5] rfl)
                                      have L94 : ∀ (n : Nat) (t1 : Int) (κc : mem) (ge : Int → Int) (gf : Int → Int) (nc : Int) (_ : 0 ≤ t1) (_ : t1 ≤ σ 8 0) (_ : 0 ≤ nc) (_ : nc ≤ ib s1 (320 + 5 * r1 + t1) 330) (_ : LQ (lgl σ (ς 11) (ς 12)) (mvV σ) ge gf nc ((60000 + 1000 * s1 + 100 * r1) + 10 * y57_0 + t1) (60000 + 1000 * s1 + 100 * r1) t1 y57_0) (_ : (5 - t1).toNat < n) (H : Heap) (locs : List Loc) (_ : va_P G gcl (wD ad ty hv σ (up (up (up ς 0 ge) 1 gf) 2 (sc (nc))) κc ++ cs) H) (_ : va_D A (wD ad ty hv σ (up (up (up ς 0 ge) 1 gf) 2 (sc (nc))) κc ++ cs)) (_ : va_S A s.heap H locs) (ls : Array Slot), lv_has ls 8 [(7, .int (ii t1)), (6, .int (ii y57_0)), (5, .int (ii r1)), (4, .int (ii zl)), (3, .int (ii s1)), (2, .int (ii 6)), (0, .ref (ad 0)), (1, .ref (ad 48))] → W p l e (rm4 4 0 0 93) s m args below meth c H locs 0 0 Q (F0 m 94 ls []) := by
                                        intro n
                                        induction n with
                                        | zero =>
                                          intro t1 κc ge gf nc ht1a ht1b hnc hBc hLc hm
                                          exact absurd hm (Nat.not_lt_zero _)
                                        | succ n ih =>
                                          intro t1 κc ge gf nc ht1a ht1b hnc hBc hLc hm H locs hP hD hS ls hl
                                          refine lv_iload hx hb dX1_lists_94 (lv_at hl 1 rfl) ?_
                                          refine li_iconst hx hb dX1_lists_96 ?_
                                          refine li_iconst hx hb dX1_lists_97 ?_
                                          refine kR (va_runS (As := [.int (ii y57_0), .int (ii 0), .int (ii 4)]) (rest := []) ⟨hx, hb, hml, hown, hts⟩ (m_isIn l G ty (wD ad ty hv σ (up (up (up ς 0 ge) 1 gf) 2 (sc (nc))) κc ++ cs) y57_0 0 4 ⟨by omega, by omega⟩ ⟨by decide, by decide⟩ ⟨by decide, by decide⟩) (va_cwS 3 hts (lw_S q117 q118 q76 q119) rfl rfl rfl (by decide +kernel) ⟨Nat.le_of_ble_eq_true rfl, Nat.le_of_ble_eq_true rfl⟩) (psR hK hP hD hX) rfl rfl hl.1 rfl (lv_room (Nat.le_of_ble_eq_true rfl)) dX1_lists_98 ⟨Nat.le_of_ble_eq_true rfl, Nat.le_of_ble_eq_true rfl⟩) (fun v hv => ?_)
                                          obtain ⟨z98, rfl, ⟨rfl, h98⟩ | ⟨rfl, h98⟩⟩ := hv
                                          · refine li_if_eq (tgt := 143) hx hb ⟨by decide, by decide⟩ dX1_lists_101 (by decide) (fun c101 => ?_) (fun c101 => ?_)
                                            · exact absurd c101 (by decide)
                                            · refine lv_iload hx hb dX1_lists_104 (lv_at hl 0 rfl) ?_
                                              refine lv_aload_n hx hb dX1_lists_106 rfl (lv_at hl 6 rfl) ?_
                                              refine va_get (D := G) (ci := 0) (v := .ref (ad 1)) (C := RX1) (T := TX1) (N := 21) hx hb hts in_X1 hown hK hP 0 (aD_0 _ _ _ _ _ _ _) rfl 0 (by decide) (hts _ q977) (fun _ h9 => h9) rfl dX1_lists_107 ?_
                                              refine va_get (D := G) (ci := 1) (v := .int (ii (σ 8 0))) (C := RX2) (T := TX2) (N := 13) hx hb hts in_X2 hown hK hP 1 (aD_1 _ _ _ _ _ _ _) rfl 4 (by decide) (hts _ q785) (fun _ h9 => h9) rfl dX1_lists_110 ?_
                                              refine li_icmp_ge (tgt := 143) hx hb ⟨by omega, by omega⟩ (rgi h8a h8b) dX1_lists_113 (by decide) (fun c113 => ?_) (fun c113 => ?_)
                                              · exact X94 t1 κc ge gf nc (by omega) (by have := ib_c s1 (320 + 5 * r1 + t1) 330; have := ib_c s1 (320 + 5 * (r1 + 1)) 330; omega) (by rcases hLc with ⟨q1, q2, q3⟩ | ⟨q1, q2, q3⟩; exact LI_skip q3 (by omega) (by omega) (fun x a c h => by have h1 := hfrom x h (by omega) (by omega); have h2 := lgl_to h; omega); exact LI_skip q3 (by omega) (by omega) (fun x a c h => by have h1 := hfrom x h (by omega) (by omega); have := lgl_fr h; omega)) H locs hP hD hS ls (lv_sub hl [2, 3, 4, 5, 6, 7] rfl)
                                              · have hb0 : 0 ≤ y57_0 := h98.1
                                                have hb4 : y57_0 ≤ 4 := h98.2
                                                have hLe := LI_in hLc ⟨hb0, hb4⟩
                                                refine lv_aload_n hx hb dX1_lists_116 rfl (lv_at hl 6 rfl) ?_
                                                refine lv_aload_n hx hb dX1_lists_117 rfl (lv_at hl 6 rfl) ?_
                                                refine va_get (D := G) (ci := 0) (v := .ref (ad 31)) (C := RX1) (T := TX1) (N := 21) hx hb hts in_X1 hown hK hP 0 (aD_0 _ _ _ _ _ _ _) rfl 4 (by decide) (hts _ q981) (fun _ h9 => h9) rfl dX1_lists_118 ?_
                                                refine lv_iload_n hx hb dX1_lists_121 rfl (lv_at hl 5 rfl) ?_
                                                refine li_aald (q := ad 38) hx hb hK hP 31 5 (aD_31 _ _ _ _ _ _ _) rfl (by decide) (by decide) (by decide) (rfl) dX1_lists_122 ?_
                                                refine lv_iload_n hx hb dX1_lists_123 rfl (lv_at hl 4 rfl) ?_
                                                refine lv_iload hx hb dX1_lists_124 (lv_at hl 2 rfl) ?_
                                                refine lv_iload hx hb dX1_lists_126 (lv_at hl 1 rfl) ?_
                                                refine lv_iload hx hb dX1_lists_128 (lv_at hl 0 rfl) ?_
                                                refine v_tells (mi := 38) (md := ad 38) (a1 := s1) (a2 := r1) (a3 := y57_0) (a4 := t1) hx hb hml hown hts hK hP hD hX 6 (by decide) hS hA (aDk ad ty hv σ _ κc cs (by decide)) (Nat.le_of_ble_eq_true rfl) (Nat.le_of_ble_eq_true rfl) hl.1 (Nat.le_of_ble_eq_true rfl) ⟨Nat.le_of_ble_eq_true rfl, Nat.le_of_ble_eq_true rfl⟩ dX1_lists_130 (fun H locs hP hD hS => ?_)
                                                rw [aDk_set ad ty hv σ _ κc cs (show 6 < 7 by decide)] at hP hD
                                                refine lv_aload_n hx hb dX1_lists_133 rfl (lv_at hl 7 rfl) ?_
                                                refine kM (va_runV (As := [.ref (ad 38), .ref (ad 48)]) (rest := []) ⟨hx, hb, hml, hown, hts⟩ (m_tries_6T l G ad ty hv σ (up (up (up ς 0 ge) 1 gf) 2 (sc (nc))) (setk κc 6 (s1) (r1) (y57_0) (t1)) cs hW hWT hlgT ⟨hs1a, by show s1 ≤ 7; omega, hr1a, by show r1 ≤ 1; omega, hb0, hb4, ht1a, by show t1 ≤ 4; omega⟩ ⟨hnc, by show nc < 400; have := ib_c s1 (320 + 5 * r1 + t1) 330; omega⟩ H.size) (cwV 2 hts (lw_V q553 q555 qs21 q76 q556) rfl rfl rfl (by decide +kernel) ⟨Nat.le_of_ble_eq_true rfl, Nat.le_of_ble_eq_true rfl⟩) (pvM (r := (RX1, TX1, 21)) hK hP hD hX 0 (aD_0 _ _ _ _ _ _ _) rfl) rfl rfl hl.1 rfl (lv_room (Nat.le_of_ble_eq_true rfl)) dX1_lists_134 ⟨Nat.le_of_ble_eq_true rfl, Nat.le_of_ble_eq_true rfl⟩) hD hS hA (fun v ws1 H locs hv hP hD hS => ?_)
                                                obtain ⟨gg, gh, nd, rfl, rfl, hadd⟩ := hv
                                                change (mnOk σ (ς 11) (ς 12) 6 s1 r1 y57_0 t1 ∧ gg = ug ge nc (60000 + 1000 * s1 + 100 * r1 + 10 * y57_0 + t1) ∧ gh = ug gf nc (mnV σ 6 s1 y57_0 t1) ∧ nd = nc + 1) ∨ (¬ mnOk σ (ς 11) (ς 12) 6 s1 r1 y57_0 t1 ∧ gg = ge ∧ gh = gf ∧ nd = nc) at hadd
                                                have hLd : LI (lgl σ (ς 11) (ς 12)) (mvV σ) gg gh nd ((60000 + 1000 * s1 + 100 * r1) + 10 * y57_0 + (t1 + 1)) := LI_mv hadd hLe (by omega) (by omega) (by omega) (by omega) (by omega) (by omega) (by omega) (by omega) (by omega) (by omega)
                                                have hnd : nc ≤ nd ∧ nd ≤ nc + 1 ∧ (nd = nc ∨ s1 = 0) := by
                                                  rcases hadd with ⟨q1, -, -, q2⟩ | ⟨-, -, -, q2⟩
                                                  · have q3 := (mnOk_6.mp q1).1; omega
                                                  · omega
                                                have hP : va_P G gcl (wD ad ty hv σ (up (up (up ς 0 gg) 1 gh) 2 (sc (nd))) (setk κc 6 (s1) (r1) (y57_0) (t1)) ++ cs) H := hP
                                                have hD : va_D A (wD ad ty hv σ (up (up (up ς 0 gg) 1 gh) 2 (sc (nd))) (setk κc 6 (s1) (r1) (y57_0) (t1)) ++ cs) := hD
                                                refine li_iinc (a := t1) (lv' := [(7, .int (ii (t1 + 1))), (6, .int (ii y57_0)), (5, .int (ii r1)), (4, .int (ii zl)), (3, .int (ii s1)), (2, .int (ii 6)), (0, .ref (ad 0)), (1, .ref (ad 48))]) hx hb dX1_lists_137 hl (k := 0) rfl (by decide) rfl (fun ls hl => ?_)
                                                refine lv_goto (tgt := 94) hx hb dX1_lists_140 (by decide) ?_
                                                exact ih (t1 + 1) (setk κc 6 (s1) (r1) (y57_0) (t1)) gg gh nd (by omega) (by omega) (by omega) (by have := ib_c s1 (320 + 5 * r1 + t1) 330; have := ib_c s1 (320 + 5 * r1 + (t1 + 1)) 330; omega) (.inl ⟨hb0, hb4, hLd⟩) (by omega) H locs hP hD hS ls (lv_sub hl [0, 1, 2, 3, 4, 5, 6, 7] rfl)
                                          · refine li_if_eq (tgt := 143) hx hb ⟨by decide, by decide⟩ dX1_lists_101 (by decide) (fun c101 => ?_) (fun c101 => ?_)
                                            · exact X94 t1 κc ge gf nc (by omega) (by have := ib_c s1 (320 + 5 * r1 + t1) 330; have := ib_c s1 (320 + 5 * (r1 + 1)) 330; omega) (by rcases hLc with ⟨q1, q2, q3⟩ | ⟨q1, q2, q3⟩; exact LI_skip q3 (by omega) (by omega) (fun x a c h => by have h1 := hfrom x h (by omega) (by omega); have h2 := lgl_to h; omega); exact LI_skip q3 (by omega) (by omega) (fun x a c h => by have h1 := hfrom x h (by omega) (by omega); have := lgl_fr h; omega)) H locs hP hD hS ls (lv_sub hl [2, 3, 4, 5, 6, 7] rfl)
                                            · exact absurd c101 (by decide)
                                      exact L94 _ 0 κb gc gd nb (by omega) (by omega) (by omega) (by have := ib_c s1 (320 + 5 * r1 + 0) 330; have := ib_c s1 (320 + 5 * r1) 330; omega) (by rcases Classical.em (0 ≤ y57_0 ∧ y57_0 ≤ 4) with e | e; exact .inl ⟨e.1, e.2, LI_skip hLb (by omega) (by omega) (fun x a c h => by have := hfrom x h (by omega) (by omega); omega)⟩; exact .inr ⟨e, rfl, hLb⟩) (Nat.lt_succ_self _) H locs hP hD hS ls (lv_sub hl [0, 1, 2, 3, 4, 5, 6, 7] rfl)
                                    refine li_if_ne (tgt := 87) hx hb ⟨by omega, by omega⟩ dX1_lists_57 (by decide) (fun c57 => ?_) (fun c57 => ?_)
                                    · refine lv_iload hx hb dX1_lists_87 (lv_at hl 1 rfl) ?_
                                      exact J57 _ (⟨by unfold beg; omega, by omega, by omega⟩) H locs hP hD hS ls (lv_sub hl [0, 1, 2, 3, 4, 5] rfl)
                                    · refine lv_iload hx hb dX1_lists_60 (lv_at hl 0 rfl) ?_
                                      refine lv_aload_n hx hb dX1_lists_62 rfl (lv_at hl 4 rfl) ?_
                                      refine va_get (D := G) (ci := 0) (v := .ref (ad 1)) (C := RX1) (T := TX1) (N := 21) hx hb hts in_X1 hown hK hP 0 (aD_0 _ _ _ _ _ _ _) rfl 0 (by decide) (hts _ q977) (fun _ h9 => h9) rfl dX1_lists_63 ?_
                                      refine va_get (D := G) (ci := 1) (v := .int (ii (σ 10 0))) (C := RX2) (T := TX2) (N := 13) hx hb hts in_X2 hown hK hP 1 (aD_1 _ _ _ _ _ _ _) rfl 8 (by decide) (hts _ q801) (fun _ h9 => h9) rfl dX1_lists_66 ?_
                                      refine li_icmp_ge (tgt := 82) hx hb ⟨by omega, by omega⟩ (rgi h10a h10b) dX1_lists_69 (by decide) (fun c69 => ?_) (fun c69 => ?_)
                                      · refine li_bipush hx hb dX1_lists_82 (by decide) ?_
                                        refine lv_goto (tgt := 89) hx hb dX1_lists_84 (by decide) ?_
                                        exact J57 _ (⟨by unfold beg; omega, by omega, by omega⟩) H locs hP hD hS ls (lv_sub hl [0, 1, 2, 3, 4, 5] rfl)
                                      · refine lv_aload_n hx hb dX1_lists_72 rfl (lv_at hl 5 rfl) ?_
                                        refine va_get (D := G) (ci := 2) (v := .ref (ad 50)) (C := RX3) (T := TX3) (N := 2) hx hb hts in_X3 hown hK hP 48 (aD_48 _ _ _ _ _ _ _) rfl 1 (by decide) (hts _ q664) (fun _ h9 => h9) rfl dX1_lists_73 ?_
                                        refine lv_iload hx hb dX1_lists_76 (lv_at hl 0 rfl) ?_
                                        refine li_iald (g := (ς 12)) hx hb hK hP 50 0 (aD_50 _ _ _ _ _ _ _) rfl (by omega) (by omega) (by decide) dX1_lists_78 ?_
                                        have r79 := hs1 r1
                                        refine lv_goto (tgt := 89) hx hb dX1_lists_79 (by decide) ?_
                                        exact J57 _ (⟨by unfold beg; omega, by omega, by omega⟩) H locs hP hD hS ls (lv_sub hl [0, 1, 2, 3, 4, 5] rfl)
                                  · refine lv_iload hx hb dX1_lists_51 (lv_at hl 0 rfl) ?_
                                    refine li_if_ne (tgt := 149) hx hb ⟨by omega, by omega⟩ dX1_lists_53 (by decide) (fun c53 => ?_) (fun c53 => ?_)
                                    · exact X39 r1 κb gc gd nb (by omega) (by have := ib_c s1 (320 + 5 * r1) 330; have := ib_c (s1 + 1) 320 330; omega) (LI_skip hLb (by omega) (by omega) (fun x a c => lgl_rope_a h10a h10b (by omega) (by omega) (by omega) (by omega) (by omega))) H locs hP hD hS ls (lv_sub hl [2, 3, 4, 5] rfl)
                                    · refine lv_iload_n hx hb dX1_lists_56 rfl (lv_at hl 2 rfl) ?_
                                      have J57 : ∀ (y57_0 : Int) (_ : beg σ (ς 12) zl s1 r1 y57_0 ∧ -4 ≤ y57_0 ∧ y57_0 ≤ 5) (H : Heap) (locs : List Loc) (_ : va_P G gcl (wD ad ty hv σ (up (up (up ς 0 gc) 1 gd) 2 (sc (nb))) κb ++ cs) H) (_ : va_D A (wD ad ty hv σ (up (up (up ς 0 gc) 1 gd) 2 (sc (nb))) κb ++ cs)) (_ : va_S A s.heap H locs) (ls : Array Slot), lv_has ls 8 [(5, .int (ii r1)), (4, .int (ii zl)), (3, .int (ii s1)), (2, .int (ii 6)), (0, .ref (ad 0)), (1, .ref (ad 48))] → W p l e (rm4 4 0 0 93) s m args below meth c H locs 0 0 Q (F0 m 89 ls [.int (ii y57_0)]) := by
                                        intro y57_0 hj57 H locs hP hD hS ls hl
                                        refine lv_istore (lv' := [(6, .int (ii y57_0)), (5, .int (ii r1)), (4, .int (ii zl)), (3, .int (ii s1)), (2, .int (ii 6)), (0, .ref (ad 0)), (1, .ref (ad 48))]) hx hb dX1_lists_89 hl (by decide) rfl (fun ls hl => ?_)
                                        have hfrom : ∀ x, lgl σ (ς 11) (ς 12) x → (60000 + 1000 * s1 + 100 * r1) ≤ x → x < (60000 + 1000 * s1 + 100 * r1) + 100 → x / 10 % 10 = y57_0 := fun x h a c => lgl_from h (k := 6) (s := s1) (r := r1) (by omega) (by omega) (by omega) hzl2 hj57.1
                                        refine li_iconst hx hb dX1_lists_91 ?_
                                        refine lv_istore (lv' := [(7, .int (ii 0)), (6, .int (ii y57_0)), (5, .int (ii r1)), (4, .int (ii zl)), (3, .int (ii s1)), (2, .int (ii 6)), (0, .ref (ad 0)), (1, .ref (ad 48))]) hx hb dX1_lists_92 hl (by decide) rfl (fun ls hl => ?_)
                                        have X94 : ∀ (t1 : Int) (κc : mem) (ge : Int → Int) (gf : Int → Int) (nc : Int) (_ : 0 ≤ nc) (_ : nc ≤ ib s1 (320 + 5 * (r1 + 1)) 330) (_ : LI (lgl σ (ς 11) (ς 12)) (mvV σ) ge gf nc ((60000 + 1000 * s1 + 100 * r1) + 100)) (H : Heap) (locs : List Loc) (_ : va_P G gcl (wD ad ty hv σ (up (up (up ς 0 ge) 1 gf) 2 (sc (nc))) κc ++ cs) H) (_ : va_D A (wD ad ty hv σ (up (up (up ς 0 ge) 1 gf) 2 (sc (nc))) κc ++ cs)) (_ : va_S A s.heap H locs) (ls : Array Slot), lv_has ls 8 [(5, .int (ii r1)), (4, .int (ii zl)), (3, .int (ii s1)), (2, .int (ii 6)), (0, .ref (ad 0)), (1, .ref (ad 48))] → W p l e (rm4 4 0 0 93) s m args below meth c H locs 0 0 Q (F0 m 143 ls []) := by
                                          intro t1 κc ge gf nc hnc hBc hLz H locs hP hD hS ls hl
                                          refine li_iinc (a := r1) (lv' := [(5, .int (ii (r1 + 1))), (4, .int (ii zl)), (3, .int (ii s1)), (2, .int (ii 6)), (0, .ref (ad 0)), (1, .ref (ad 48))]) hx hb dX1_lists_143 hl (k := 0) rfl (by decide) rfl (fun ls hl => ?_)
                                          refine lv_goto (tgt := 39) hx hb dX1_lists_146 (by decide) ?_
                                          exact ih (r1 + 1) κc ge gf nc (by omega) (by omega) (by omega) (hBc) (by rw [show (60000 + 1000 * s1 + 100 * (r1 + 1)) = 60000 + 1000 * s1 + 100 * r1 + 100 by omega]; exact hLz) (by omega) H locs hP hD hS ls (lv_sub hl [0, 1, 2, 3, 4, 5] rfl)
                                        have L94 : ∀ (n : Nat) (t1 : Int) (κc : mem) (ge : Int → Int) (gf : Int → Int) (nc : Int) (_ : 0 ≤ t1) (_ : t1 ≤ σ 8 0) (_ : 0 ≤ nc) (_ : nc ≤ ib s1 (320 + 5 * r1 + t1) 330) (_ : LQ (lgl σ (ς 11) (ς 12)) (mvV σ) ge gf nc ((60000 + 1000 * s1 + 100 * r1) + 10 * y57_0 + t1) (60000 + 1000 * s1 + 100 * r1) t1 y57_0) (_ : (5 - t1).toNat < n) (H : Heap) (locs : List Loc) (_ : va_P G gcl (wD ad ty hv σ (up (up (up ς 0 ge) 1 gf) 2 (sc (nc))) κc ++ cs) H) (_ : va_D A (wD ad ty hv σ (up (up (up ς 0 ge) 1 gf) 2 (sc (nc))) κc ++ cs)) (_ : va_S A s.heap H locs) (ls : Array Slot), lv_has ls 8 [(7, .int (ii t1)), (6, .int (ii y57_0)), (5, .int (ii r1)), (4, .int (ii zl)), (3, .int (ii s1)), (2, .int (ii 6)), (0, .ref (ad 0)), (1, .ref (ad 48))] → W p l e (rm4 4 0 0 93) s m args below meth c H locs 0 0 Q (F0 m 94 ls []) := by
                                          intro n
                                          induction n with
                                          | zero =>
                                            intro t1 κc ge gf nc ht1a ht1b hnc hBc hLc hm
                                            exact absurd hm (Nat.not_lt_zero _)
                                          | succ n ih =>
                                            intro t1 κc ge gf nc ht1a ht1b hnc hBc hLc hm H locs hP hD hS ls hl
                                            refine lv_iload hx hb dX1_lists_94 (lv_at hl 1 rfl) ?_
                                            refine li_iconst hx hb dX1_lists_96 ?_
                                            refine li_iconst hx hb dX1_lists_97 ?_
                                            refine kR (va_runS (As := [.int (ii y57_0), .int (ii 0), .int (ii 4)]) (rest := []) ⟨hx, hb, hml, hown, hts⟩ (m_isIn l G ty (wD ad ty hv σ (up (up (up ς 0 ge) 1 gf) 2 (sc (nc))) κc ++ cs) y57_0 0 4 ⟨by omega, by omega⟩ ⟨by decide, by decide⟩ ⟨by decide, by decide⟩) (va_cwS 3 hts (lw_S q117 q118 q76 q119) rfl rfl rfl (by decide +kernel) ⟨Nat.le_of_ble_eq_true rfl, Nat.le_of_ble_eq_true rfl⟩) (psR hK hP hD hX) rfl rfl hl.1 rfl (lv_room (Nat.le_of_ble_eq_true rfl)) dX1_lists_98 ⟨Nat.le_of_ble_eq_true rfl, Nat.le_of_ble_eq_true rfl⟩) (fun v hv => ?_)
                                            obtain ⟨z98, rfl, ⟨rfl, h98⟩ | ⟨rfl, h98⟩⟩ := hv
                                            · refine li_if_eq (tgt := 143) hx hb ⟨by decide, by decide⟩ dX1_lists_101 (by decide) (fun c101 => ?_) (fun c101 => ?_)
                                              · exact absurd c101 (by decide)
                                              · refine lv_iload hx hb dX1_lists_104 (lv_at hl 0 rfl) ?_
                                                refine lv_aload_n hx hb dX1_lists_106 rfl (lv_at hl 6 rfl) ?_
                                                refine va_get (D := G) (ci := 0) (v := .ref (ad 1)) (C := RX1) (T := TX1) (N := 21) hx hb hts in_X1 hown hK hP 0 (aD_0 _ _ _ _ _ _ _) rfl 0 (by decide) (hts _ q977) (fun _ h9 => h9) rfl dX1_lists_107 ?_
                                                refine va_get (D := G) (ci := 1) (v := .int (ii (σ 8 0))) (C := RX2) (T := TX2) (N := 13) hx hb hts in_X2 hown hK hP 1 (aD_1 _ _ _ _ _ _ _) rfl 4 (by decide) (hts _ q785) (fun _ h9 => h9) rfl dX1_lists_110 ?_
                                                refine li_icmp_ge (tgt := 143) hx hb ⟨by omega, by omega⟩ (rgi h8a h8b) dX1_lists_113 (by decide) (fun c113 => ?_) (fun c113 => ?_)
                                                · exact X94 t1 κc ge gf nc (by omega) (by have := ib_c s1 (320 + 5 * r1 + t1) 330; have := ib_c s1 (320 + 5 * (r1 + 1)) 330; omega) (by rcases hLc with ⟨q1, q2, q3⟩ | ⟨q1, q2, q3⟩; exact LI_skip q3 (by omega) (by omega) (fun x a c h => by have h1 := hfrom x h (by omega) (by omega); have h2 := lgl_to h; omega); exact LI_skip q3 (by omega) (by omega) (fun x a c h => by have h1 := hfrom x h (by omega) (by omega); have := lgl_fr h; omega)) H locs hP hD hS ls (lv_sub hl [2, 3, 4, 5, 6, 7] rfl)
                                                · have hb0 : 0 ≤ y57_0 := h98.1
                                                  have hb4 : y57_0 ≤ 4 := h98.2
                                                  have hLe := LI_in hLc ⟨hb0, hb4⟩
                                                  refine lv_aload_n hx hb dX1_lists_116 rfl (lv_at hl 6 rfl) ?_
                                                  refine lv_aload_n hx hb dX1_lists_117 rfl (lv_at hl 6 rfl) ?_
                                                  refine va_get (D := G) (ci := 0) (v := .ref (ad 31)) (C := RX1) (T := TX1) (N := 21) hx hb hts in_X1 hown hK hP 0 (aD_0 _ _ _ _ _ _ _) rfl 4 (by decide) (hts _ q981) (fun _ h9 => h9) rfl dX1_lists_118 ?_
                                                  refine lv_iload_n hx hb dX1_lists_121 rfl (lv_at hl 5 rfl) ?_
                                                  refine li_aald (q := ad 38) hx hb hK hP 31 5 (aD_31 _ _ _ _ _ _ _) rfl (by decide) (by decide) (by decide) (rfl) dX1_lists_122 ?_
                                                  refine lv_iload_n hx hb dX1_lists_123 rfl (lv_at hl 4 rfl) ?_
                                                  refine lv_iload hx hb dX1_lists_124 (lv_at hl 2 rfl) ?_
                                                  refine lv_iload hx hb dX1_lists_126 (lv_at hl 1 rfl) ?_
                                                  refine lv_iload hx hb dX1_lists_128 (lv_at hl 0 rfl) ?_
                                                  refine v_tells (mi := 38) (md := ad 38) (a1 := s1) (a2 := r1) (a3 := y57_0) (a4 := t1) hx hb hml hown hts hK hP hD hX 6 (by decide) hS hA (aDk ad ty hv σ _ κc cs (by decide)) (Nat.le_of_ble_eq_true rfl) (Nat.le_of_ble_eq_true rfl) hl.1 (Nat.le_of_ble_eq_true rfl) ⟨Nat.le_of_ble_eq_true rfl, Nat.le_of_ble_eq_true rfl⟩ dX1_lists_130 (fun H locs hP hD hS => ?_)
                                                  rw [aDk_set ad ty hv σ _ κc cs (show 6 < 7 by decide)] at hP hD
                                                  refine lv_aload_n hx hb dX1_lists_133 rfl (lv_at hl 7 rfl) ?_
                                                  refine kM (va_runV (As := [.ref (ad 38), .ref (ad 48)]) (rest := []) ⟨hx, hb, hml, hown, hts⟩ (m_tries_6T l G ad ty hv σ (up (up (up ς 0 ge) 1 gf) 2 (sc (nc))) (setk κc 6 (s1) (r1) (y57_0) (t1)) cs hW hWT hlgT ⟨hs1a, by show s1 ≤ 7; omega, hr1a, by show r1 ≤ 1; omega, hb0, hb4, ht1a, by show t1 ≤ 4; omega⟩ ⟨hnc, by show nc < 400; have := ib_c s1 (320 + 5 * r1 + t1) 330; omega⟩ H.size) (cwV 2 hts (lw_V q553 q555 qs21 q76 q556) rfl rfl rfl (by decide +kernel) ⟨Nat.le_of_ble_eq_true rfl, Nat.le_of_ble_eq_true rfl⟩) (pvM (r := (RX1, TX1, 21)) hK hP hD hX 0 (aD_0 _ _ _ _ _ _ _) rfl) rfl rfl hl.1 rfl (lv_room (Nat.le_of_ble_eq_true rfl)) dX1_lists_134 ⟨Nat.le_of_ble_eq_true rfl, Nat.le_of_ble_eq_true rfl⟩) hD hS hA (fun v ws1 H locs hv hP hD hS => ?_)
                                                  obtain ⟨gg, gh, nd, rfl, rfl, hadd⟩ := hv
                                                  change (mnOk σ (ς 11) (ς 12) 6 s1 r1 y57_0 t1 ∧ gg = ug ge nc (60000 + 1000 * s1 + 100 * r1 + 10 * y57_0 + t1) ∧ gh = ug gf nc (mnV σ 6 s1 y57_0 t1) ∧ nd = nc + 1) ∨ (¬ mnOk σ (ς 11) (ς 12) 6 s1 r1 y57_0 t1 ∧ gg = ge ∧ gh = gf ∧ nd = nc) at hadd
                                                  have hLd : LI (lgl σ (ς 11) (ς 12)) (mvV σ) gg gh nd ((60000 + 1000 * s1 + 100 * r1) + 10 * y57_0 + (t1 + 1)) := LI_mv hadd hLe (by omega) (by omega) (by omega) (by omega) (by omega) (by omega) (by omega) (by omega) (by omega) (by omega)
                                                  have hnd : nc ≤ nd ∧ nd ≤ nc + 1 ∧ (nd = nc ∨ s1 = 0) := by
                                                    rcases hadd with ⟨q1, -, -, q2⟩ | ⟨-, -, -, q2⟩
                                                    · have q3 := (mnOk_6.mp q1).1; omega
                                                    · omega
                                                  have hP : va_P G gcl (wD ad ty hv σ (up (up (up ς 0 gg) 1 gh) 2 (sc (nd))) (setk κc 6 (s1) (r1) (y57_0) (t1)) ++ cs) H := hP
                                                  have hD : va_D A (wD ad ty hv σ (up (up (up ς 0 gg) 1 gh) 2 (sc (nd))) (setk κc 6 (s1) (r1) (y57_0) (t1)) ++ cs) := hD
                                                  refine li_iinc (a := t1) (lv' := [(7, .int (ii (t1 + 1))), (6, .int (ii y57_0)), (5, .int (ii r1)), (4, .int (ii zl)), (3, .int (ii s1)), (2, .int (ii 6)), (0, .ref (ad 0)), (1, .ref (ad 48))]) hx hb dX1_lists_137 hl (k := 0) rfl (by decide) rfl (fun ls hl => ?_)
                                                  refine lv_goto (tgt := 94) hx hb dX1_lists_140 (by decide) ?_
                                                  exact ih (t1 + 1) (setk κc 6 (s1) (r1) (y57_0) (t1)) gg gh nd (by omega) (by omega) (by omega) (by have := ib_c s1 (320 + 5 * r1 + t1) 330; have := ib_c s1 (320 + 5 * r1 + (t1 + 1)) 330; omega) (.inl ⟨hb0, hb4, hLd⟩) (by omega) H locs hP hD hS ls (lv_sub hl [0, 1, 2, 3, 4, 5, 6, 7] rfl)
                                            · refine li_if_eq (tgt := 143) hx hb ⟨by decide, by decide⟩ dX1_lists_101 (by decide) (fun c101 => ?_) (fun c101 => ?_)
                                              · exact X94 t1 κc ge gf nc (by omega) (by have := ib_c s1 (320 + 5 * r1 + t1) 330; have := ib_c s1 (320 + 5 * (r1 + 1)) 330; omega) (by rcases hLc with ⟨q1, q2, q3⟩ | ⟨q1, q2, q3⟩; exact LI_skip q3 (by omega) (by omega) (fun x a c h => by have h1 := hfrom x h (by omega) (by omega); have h2 := lgl_to h; omega); exact LI_skip q3 (by omega) (by omega) (fun x a c h => by have h1 := hfrom x h (by omega) (by omega); have := lgl_fr h; omega)) H locs hP hD hS ls (lv_sub hl [2, 3, 4, 5, 6, 7] rfl)
                                              · exact absurd c101 (by decide)
                                        exact L94 _ 0 κb gc gd nb (by omega) (by omega) (by omega) (by have := ib_c s1 (320 + 5 * r1 + 0) 330; have := ib_c s1 (320 + 5 * r1) 330; omega) (by rcases Classical.em (0 ≤ y57_0 ∧ y57_0 ≤ 4) with e | e; exact .inl ⟨e.1, e.2, LI_skip hLb (by omega) (by omega) (fun x a c h => by have := hfrom x h (by omega) (by omega); omega)⟩; exact .inr ⟨e, rfl, hLb⟩) (Nat.lt_succ_self _) H locs hP hD hS ls (lv_sub hl [0, 1, 2, 3, 4, 5, 6, 7] rfl)
                                      refine li_if_ne (tgt := 87) hx hb ⟨by omega, by omega⟩ dX1_lists_57 (by decide) (fun c57 => ?_) (fun c57 => ?_)
                                      · refine lv_iload hx hb dX1_lists_87 (lv_at hl 1 rfl) ?_
                                        exact J57 _ (⟨by unfold beg; omega, by omega, by omega⟩) H locs hP hD hS ls (lv_sub hl [0, 1, 2, 3, 4, 5] rfl)
                                      · refine lv_iload hx hb dX1_lists_60 (lv_at hl 0 rfl) ?_
                                        refine lv_aload_n hx hb dX1_lists_62 rfl (lv_at hl 4 rfl) ?_
                                        refine va_get (D := G) (ci := 0) (v := .ref (ad 1)) (C := RX1) (T := TX1) (N := 21) hx hb hts in_X1 hown hK hP 0 (aD_0 _ _ _ _ _ _ _) rfl 0 (by decide) (hts _ q977) (fun _ h9 => h9) rfl dX1_lists_63 ?_
                                        refine va_get (D := G) (ci := 1) (v := .int (ii (σ 10 0))) (C := RX2) (T := TX2) (N := 13) hx hb hts in_X2 hown hK hP 1 (aD_1 _ _ _ _ _ _ _) rfl 8 (by decide) (hts _ q801) (fun _ h9 => h9) rfl dX1_lists_66 ?_
                                        refine li_icmp_ge (tgt := 82) hx hb ⟨by omega, by omega⟩ (rgi h10a h10b) dX1_lists_69 (by decide) (fun c69 => ?_) (fun c69 => ?_)
                                        · refine li_bipush hx hb dX1_lists_82 (by decide) ?_
                                          refine lv_goto (tgt := 89) hx hb dX1_lists_84 (by decide) ?_
                                          exact J57 _ (⟨by unfold beg; omega, by omega, by omega⟩) H locs hP hD hS ls (lv_sub hl [0, 1, 2, 3, 4, 5] rfl)
                                        · refine lv_aload_n hx hb dX1_lists_72 rfl (lv_at hl 5 rfl) ?_
                                          refine va_get (D := G) (ci := 2) (v := .ref (ad 50)) (C := RX3) (T := TX3) (N := 2) hx hb hts in_X3 hown hK hP 48 (aD_48 _ _ _ _ _ _ _) rfl 1 (by decide) (hts _ q664) (fun _ h9 => h9) rfl dX1_lists_73 ?_
                                          refine lv_iload hx hb dX1_lists_76 (lv_at hl 0 rfl) ?_
                                          refine li_iald (g := (ς 12)) hx hb hK hP 50 0 (aD_50 _ _ _ _ _ _ _) rfl (by omega) (by omega) (by decide) dX1_lists_78 ?_
                                          have r79 := hs1 r1
                                          refine lv_goto (tgt := 89) hx hb dX1_lists_79 (by decide) ?_
                                          exact J57 _ (⟨by unfold beg; omega, by omega, by omega⟩) H locs hP hD hS ls (lv_sub hl [0, 1, 2, 3, 4, 5] rfl)
                              exact L39 _ 0 κa ga gb na (by omega) (by omega) (by omega) (by have := ib_c s1 (320 + 5 * 0) 330; have := ib_c s1 320 330; omega) (by rw [show (60000 + 1000 * s1 + 100 * (0 : Int)) = 60000 + 1000 * s1 by omega]; exact hLa) (Nat.lt_succ_self _) H locs hP hD hS ls (lv_sub hl [0, 1, 2, 3, 4, 5] rfl)
                        exact L15 _ 0 κa ga gb na (by omega) (by omega) (by omega) (by omega) (by have := ib_c 0 320 330; omega) (by first | exact LI_skip (LI_0 _ _ _ _) (by decide) (by decide) (fun x a c => lgl_0 (by omega)) | (rw [show (60000 + 1000 * (0 : Int)) = 60000 by rfl]; exact hLx)) (Nat.lt_succ_self _) H locs hP hD hS ls (lv_sub hl [0, 1, 2, 3] rfl)
                    have L15 : ∀ (n : Nat) (s1 : Int) (κa : mem) (ga : Int → Int) (gb : Int → Int) (na : Int) (_ : 0 ≤ s1) (_ : s1 ≤ p2 (σ 9 0)) (_ : s1 ≤ 8) (_ : 0 ≤ na) (_ : na ≤ 280 + 5 * s1) (_ : LI (lgl σ (ς 11) (ς 12)) (mvV σ) ga gb na (50000 + 1000 * s1)) (_ : (8 - s1).toNat < n) (H : Heap) (locs : List Loc) (_ : va_P G gcl (wD ad ty hv σ (up (up (up ς 0 ga) 1 gb) 2 (sc (na))) κa ++ cs) H) (_ : va_D A (wD ad ty hv σ (up (up (up ς 0 ga) 1 gb) 2 (sc (na))) κa ++ cs)) (_ : va_S A s.heap H locs) (ls : Array Slot), lv_has ls 8 [(3, .int (ii s1)), (2, .int (ii 5)), (0, .ref (ad 0)), (1, .ref (ad 48))] → W p l e (rm4 4 0 0 93) s m args below meth c H locs 0 0 Q (F0 m 15 ls []) := by
                      intro n
                      induction n with
                      | zero =>
                        intro s1 κa ga gb na hs1a hs1b hs7 hna hBa hLa hm
                        exact absurd hm (Nat.not_lt_zero _)
                      | succ n ih =>
                        intro s1 κa ga gb na hs1a hs1b hs7 hna hBa hLa hm H locs hP hD hS ls hl
                        refine lv_iload_n hx hb dX1_lists_15 rfl (lv_at hl 0 rfl) ?_
                        refine li_iconst hx hb dX1_lists_16 ?_
                        refine lv_aload_n hx hb dX1_lists_17 rfl (lv_at hl 2 rfl) ?_
                        refine va_get (D := G) (ci := 0) (v := .ref (ad 1)) (C := RX1) (T := TX1) (N := 21) hx hb hts in_X1 hown hK hP 0 (aD_0 _ _ _ _ _ _ _) rfl 0 (by decide) (hts _ q977) (fun _ h9 => h9) rfl dX1_lists_18 ?_
                        refine va_get (D := G) (ci := 1) (v := .int (ii (σ 9 0))) (C := RX2) (T := TX2) (N := 13) hx hb hts in_X2 hown hK hP 1 (aD_1 _ _ _ _ _ _ _) rfl 6 (by decide) (hts _ q790) (fun _ h9 => h9) rfl dX1_lists_21 ?_
                        refine lv_ishl hx hb dX1_lists_24 ?_
                        refine li_topx (z := p2 (σ 9 0)) (ii_shl1 h9a h9b) ?_
                        refine li_icmp_ge (tgt := 155) hx hb ⟨by omega, by omega⟩ ⟨by omega, by omega⟩ dX1_lists_25 (by decide) (fun c25 => ?_) (fun c25 => ?_)
                        · exact X15 s1 κa ga gb na (by omega) (by omega) (LI_skip hLa (by omega) (by omega) (fun x a c => lgl_set h9a h9b (by omega) (by omega))) H locs hP hD hS ls (lv_sub hl [1, 2, 3] rfl)
                        · refine lv_aload_n hx hb dX1_lists_28 rfl (lv_at hl 2 rfl) ?_
                          refine lv_iload_n hx hb dX1_lists_29 rfl (lv_at hl 0 rfl) ?_
                          refine lv_aload_n hx hb dX1_lists_30 rfl (lv_at hl 3 rfl) ?_
                          refine kR (va_runV (As := [.int (ii s1), .ref (ad 48)]) (rest := []) ⟨hx, hb, hml, hown, hts⟩ (m_ledgeOfT l G ad ty hv σ (up (up (up ς 0 ga) 1 gb) 2 (sc (na))) κa cs s1 hW hWT ⟨by omega, by omega⟩) (cwV 2 hts (lw_V q549 q551 qs20 q76 q552) rfl rfl rfl (by decide +kernel) ⟨Nat.le_of_ble_eq_true rfl, Nat.le_of_ble_eq_true rfl⟩) (pvR (r := (RX1, TX1, 21)) hK hP hD hX 0 (aD_0 _ _ _ _ _ _ _) rfl) rfl rfl hl.1 rfl (lv_room (Nat.le_of_ble_eq_true rfl)) dX1_lists_31 ⟨Nat.le_of_ble_eq_true rfl, Nat.le_of_ble_eq_true rfl⟩) (fun v hv => ?_)
                          obtain ⟨zl, rfl, hzl, hzl2⟩ := hv
                          replace hzl : -4 ≤ zl ∧ zl ≤ 4 := by omega
                          refine lv_istore (lv' := [(4, .int (ii zl)), (3, .int (ii s1)), (2, .int (ii 5)), (0, .ref (ad 0)), (1, .ref (ad 48))]) hx hb dX1_lists_34 hl (by decide) rfl (fun ls hl => ?_)
                          refine li_iconst hx hb dX1_lists_36 ?_
                          refine lv_istore (lv' := [(5, .int (ii 0)), (4, .int (ii zl)), (3, .int (ii s1)), (2, .int (ii 5)), (0, .ref (ad 0)), (1, .ref (ad 48))]) hx hb dX1_lists_37 hl (by decide) rfl (fun ls hl => ?_)
                          have X39 : ∀ (r1 : Int) (κb : mem) (gc : Int → Int) (gd : Int → Int) (nb : Int) (_ : 0 ≤ nb) (_ : nb ≤ 280 + 5 * (s1 + 1)) (_ : LI (lgl σ (ς 11) (ς 12)) (mvV σ) gc gd nb (50000 + 1000 * s1 + 1000)) (H : Heap) (locs : List Loc) (_ : va_P G gcl (wD ad ty hv σ (up (up (up ς 0 gc) 1 gd) 2 (sc (nb))) κb ++ cs) H) (_ : va_D A (wD ad ty hv σ (up (up (up ς 0 gc) 1 gd) 2 (sc (nb))) κb ++ cs)) (_ : va_S A s.heap H locs) (ls : Array Slot), lv_has ls 8 [(3, .int (ii s1)), (2, .int (ii 5)), (0, .ref (ad 0)), (1, .ref (ad 48))] → W p l e (rm4 4 0 0 93) s m args below meth c H locs 0 0 Q (F0 m 149 ls []) := by
                            intro r1 κb gc gd nb hnb hBb hLy H locs hP hD hS ls hl
                            refine li_iinc (a := s1) (lv' := [(3, .int (ii (s1 + 1))), (2, .int (ii 5)), (0, .ref (ad 0)), (1, .ref (ad 48))]) hx hb dX1_lists_149 hl (k := 0) rfl (by decide) rfl (fun ls hl => ?_)
                            refine lv_goto (tgt := 15) hx hb dX1_lists_152 (by decide) ?_
                            exact ih (s1 + 1) κb gc gd nb (by omega) (by omega) (by omega) (by omega) (hBb) (by rw [show (50000 + 1000 * (s1 + 1)) = 50000 + 1000 * s1 + 1000 by omega]; exact hLy) (by omega) H locs hP hD hS ls (lv_sub hl [0, 1, 2, 3] rfl)
                          have L39 : ∀ (n : Nat) (r1 : Int) (κb : mem) (gc : Int → Int) (gd : Int → Int) (nb : Int) (_ : 0 ≤ r1) (_ : r1 ≤ 2) (_ : 0 ≤ nb) (_ : nb ≤ 280 + 5 * s1 + ib r1 0 5) (_ : LI (lgl σ (ς 11) (ς 12)) (mvV σ) gc gd nb (50000 + 1000 * s1 + 100 * r1)) (_ : (2 - r1).toNat < n) (H : Heap) (locs : List Loc) (_ : va_P G gcl (wD ad ty hv σ (up (up (up ς 0 gc) 1 gd) 2 (sc (nb))) κb ++ cs) H) (_ : va_D A (wD ad ty hv σ (up (up (up ς 0 gc) 1 gd) 2 (sc (nb))) κb ++ cs)) (_ : va_S A s.heap H locs) (ls : Array Slot), lv_has ls 8 [(5, .int (ii r1)), (4, .int (ii zl)), (3, .int (ii s1)), (2, .int (ii 5)), (0, .ref (ad 0)), (1, .ref (ad 48))] → W p l e (rm4 4 0 0 93) s m args below meth c H locs 0 0 Q (F0 m 39 ls []) := by
                            intro n
                            induction n with
                            | zero =>
                              intro r1 κb gc gd nb hr1a hr1b hnb hBb hLb hm
                              exact absurd hm (Nat.not_lt_zero _)
                            | succ n ih =>
                              intro r1 κb gc gd nb hr1a hr1b hnb hBb hLb hm H locs hP hD hS ls hl
                              refine lv_iload hx hb dX1_lists_39 (lv_at hl 0 rfl) ?_
                              refine lv_aload_n hx hb dX1_lists_41 rfl (lv_at hl 4 rfl) ?_
                              refine va_get (D := G) (ci := 0) (v := .ref (ad 1)) (C := RX1) (T := TX1) (N := 21) hx hb hts in_X1 hown hK hP 0 (aD_0 _ _ _ _ _ _ _) rfl 0 (by decide) (hts _ q977) (fun _ h9 => h9) rfl dX1_lists_42 ?_
                              refine va_get (D := G) (ci := 1) (v := .int (ii (σ 10 0))) (C := RX2) (T := TX2) (N := 13) hx hb hts in_X2 hown hK hP 1 (aD_1 _ _ _ _ _ _ _) rfl 8 (by decide) (hts _ q801) (fun _ h9 => h9) rfl dX1_lists_45 ?_
                              refine li_icmp_lt (tgt := 56) hx hb ⟨by omega, by omega⟩ (rgi h10a h10b) dX1_lists_48 (by decide) (fun c48 => ?_) (fun c48 => ?_)
                              · refine lv_iload_n hx hb dX1_lists_56 rfl (lv_at hl 2 rfl) ?_
                                have J57 : ∀ (y57_0 : Int) (_ : beg σ (ς 12) zl s1 r1 y57_0 ∧ -4 ≤ y57_0 ∧ y57_0 ≤ 5) (H : Heap) (locs : List Loc) (_ : va_P G gcl (wD ad ty hv σ (up (up (up ς 0 gc) 1 gd) 2 (sc (nb))) κb ++ cs) H) (_ : va_D A (wD ad ty hv σ (up (up (up ς 0 gc) 1 gd) 2 (sc (nb))) κb ++ cs)) (_ : va_S A s.heap H locs) (ls : Array Slot), lv_has ls 8 [(5, .int (ii r1)), (4, .int (ii zl)), (3, .int (ii s1)), (2, .int (ii 5)), (0, .ref (ad 0)), (1, .ref (ad 48))] → W p l e (rm4 4 0 0 93) s m args below meth c H locs 0 0 Q (F0 m 89 ls [.int (ii y57_0)]) := by
                                  intro y57_0 hj57 H locs hP hD hS ls hl
                                  refine lv_istore (lv' := [(6, .int (ii y57_0)), (5, .int (ii r1)), (4, .int (ii zl)), (3, .int (ii s1)), (2, .int (ii 5)), (0, .ref (ad 0)), (1, .ref (ad 48))]) hx hb dX1_lists_89 hl (by decide) rfl (fun ls hl => ?_)
                                  have hfrom : ∀ x, lgl σ (ς 11) (ς 12) x → (50000 + 1000 * s1 + 100 * r1) ≤ x → x < (50000 + 1000 * s1 + 100 * r1) + 100 → x / 10 % 10 = y57_0 := fun x h a c => lgl_from h (k := 5) (s := s1) (r := r1) (by omega) (by omega) (by omega) hzl2 hj57.1
                                  refine li_iconst hx hb dX1_lists_91 ?_
                                  refine lv_istore (lv' := [(7, .int (ii 0)), (6, .int (ii y57_0)), (5, .int (ii r1)), (4, .int (ii zl)), (3, .int (ii s1)), (2, .int (ii 5)), (0, .ref (ad 0)), (1, .ref (ad 48))]) hx hb dX1_lists_92 hl (by decide) rfl (fun ls hl => ?_)
                                  have X94 : ∀ (t1 : Int) (κc : mem) (ge : Int → Int) (gf : Int → Int) (nc : Int) (_ : 0 ≤ nc) (_ : nc ≤ 280 + 5 * s1 + ib (r1 + 1) 0 5) (_ : LI (lgl σ (ς 11) (ς 12)) (mvV σ) ge gf nc ((50000 + 1000 * s1 + 100 * r1) + 100)) (H : Heap) (locs : List Loc) (_ : va_P G gcl (wD ad ty hv σ (up (up (up ς 0 ge) 1 gf) 2 (sc (nc))) κc ++ cs) H) (_ : va_D A (wD ad ty hv σ (up (up (up ς 0 ge) 1 gf) 2 (sc (nc))) κc ++ cs)) (_ : va_S A s.heap H locs) (ls : Array Slot), lv_has ls 8 [(5, .int (ii r1)), (4, .int (ii zl)), (3, .int (ii s1)), (2, .int (ii 5)), (0, .ref (ad 0)), (1, .ref (ad 48))] → W p l e (rm4 4 0 0 93) s m args below meth c H locs 0 0 Q (F0 m 143 ls []) := by
                                    intro t1 κc ge gf nc hnc hBc hLz H locs hP hD hS ls hl
                                    refine li_iinc (a := r1) (lv' := [(5, .int (ii (r1 + 1))), (4, .int (ii zl)), (3, .int (ii s1)), (2, .int (ii 5)), (0, .ref (ad 0)), (1, .ref (ad 48))]) hx hb dX1_lists_143 hl (k := 0) rfl (by decide) rfl (fun ls hl => ?_)
                                    refine lv_goto (tgt := 39) hx hb dX1_lists_146 (by decide) ?_
                                    exact ih (r1 + 1) κc ge gf nc (by omega) (by omega) (by omega) (hBc) (by rw [show (50000 + 1000 * s1 + 100 * (r1 + 1)) = 50000 + 1000 * s1 + 100 * r1 + 100 by omega]; exact hLz) (by omega) H locs hP hD hS ls (lv_sub hl [0, 1, 2, 3, 4, 5] rfl)
                                  have L94 : ∀ (n : Nat) (t1 : Int) (κc : mem) (ge : Int → Int) (gf : Int → Int) (nc : Int) (_ : 0 ≤ t1) (_ : t1 ≤ σ 8 0) (_ : 0 ≤ nc) (_ : nc ≤ 280 + 5 * s1 + ib r1 t1 5) (_ : LQ (lgl σ (ς 11) (ς 12)) (mvV σ) ge gf nc ((50000 + 1000 * s1 + 100 * r1) + 10 * y57_0 + t1) (50000 + 1000 * s1 + 100 * r1) t1 y57_0) (_ : (5 - t1).toNat < n) (H : Heap) (locs : List Loc) (_ : va_P G gcl (wD ad ty hv σ (up (up (up ς 0 ge) 1 gf) 2 (sc (nc))) κc ++ cs) H) (_ : va_D A (wD ad ty hv σ (up (up (up ς 0 ge) 1 gf) 2 (sc (nc))) κc ++ cs)) (_ : va_S A s.heap H locs) (ls : Array Slot), lv_has ls 8 [(7, .int (ii t1)), (6, .int (ii y57_0)), (5, .int (ii r1)), (4, .int (ii zl)), (3, .int (ii s1)), (2, .int (ii 5)), (0, .ref (ad 0)), (1, .ref (ad 48))] → W p l e (rm4 4 0 0 93) s m args below meth c H locs 0 0 Q (F0 m 94 ls []) := by
                                    intro n
                                    induction n with
                                    | zero =>
                                      intro t1 κc ge gf nc ht1a ht1b hnc hBc hLc hm
                                      exact absurd hm (Nat.not_lt_zero _)
                                    | succ n ih =>
                                      intro t1 κc ge gf nc ht1a ht1b hnc hBc hLc hm H locs hP hD hS ls hl
                                      refine lv_iload hx hb dX1_lists_94 (lv_at hl 1 rfl) ?_
                                      refine li_iconst hx hb dX1_lists_96 ?_
                                      refine li_iconst hx hb dX1_lists_97 ?_
                                      refine kR (va_runS (As := [.int (ii y57_0), .int (ii 0), .int (ii 4)]) (rest := []) ⟨hx, hb, hml, hown, hts⟩ (m_isIn l G ty (wD ad ty hv σ (up (up (up ς 0 ge) 1 gf) 2 (sc (nc))) κc ++ cs) y57_0 0 4 ⟨by omega, by omega⟩ ⟨by decide, by decide⟩ ⟨by decide, by decide⟩) (va_cwS 3 hts (lw_S q117 q118 q76 q119) rfl rfl rfl (by decide +kernel) ⟨Nat.le_of_ble_eq_true rfl, Nat.le_of_ble_eq_true rfl⟩) (psR hK hP hD hX) rfl rfl hl.1 rfl (lv_room (Nat.le_of_ble_eq_true rfl)) dX1_lists_98 ⟨Nat.le_of_ble_eq_true rfl, Nat.le_of_ble_eq_true rfl⟩) (fun v hv => ?_)
                                      obtain ⟨z98, rfl, ⟨rfl, h98⟩ | ⟨rfl, h98⟩⟩ := hv
                                      · refine li_if_eq (tgt := 143) hx hb ⟨by decide, by decide⟩ dX1_lists_101 (by decide) (fun c101 => ?_) (fun c101 => ?_)
                                        · exact absurd c101 (by decide)
                                        · refine lv_iload hx hb dX1_lists_104 (lv_at hl 0 rfl) ?_
                                          refine lv_aload_n hx hb dX1_lists_106 rfl (lv_at hl 6 rfl) ?_
                                          refine va_get (D := G) (ci := 0) (v := .ref (ad 1)) (C := RX1) (T := TX1) (N := 21) hx hb hts in_X1 hown hK hP 0 (aD_0 _ _ _ _ _ _ _) rfl 0 (by decide) (hts _ q977) (fun _ h9 => h9) rfl dX1_lists_107 ?_
                                          refine va_get (D := G) (ci := 1) (v := .int (ii (σ 8 0))) (C := RX2) (T := TX2) (N := 13) hx hb hts in_X2 hown hK hP 1 (aD_1 _ _ _ _ _ _ _) rfl 4 (by decide) (hts _ q785) (fun _ h9 => h9) rfl dX1_lists_110 ?_
                                          refine li_icmp_ge (tgt := 143) hx hb ⟨by omega, by omega⟩ (rgi h8a h8b) dX1_lists_113 (by decide) (fun c113 => ?_) (fun c113 => ?_)
                                          · exact X94 t1 κc ge gf nc (by omega) (by have := ib_c r1 t1 5; have := ib_c (r1 + 1) 0 5; omega) (by rcases hLc with ⟨q1, q2, q3⟩ | ⟨q1, q2, q3⟩; exact LI_skip q3 (by omega) (by omega) (fun x a c h => by have h1 := hfrom x h (by omega) (by omega); have h2 := lgl_to h; omega); exact LI_skip q3 (by omega) (by omega) (fun x a c h => by have h1 := hfrom x h (by omega) (by omega); have := lgl_fr h; omega)) H locs hP hD hS ls (lv_sub hl [2, 3, 4, 5, 6, 7] rfl)
                                          · have hb0 : 0 ≤ y57_0 := h98.1
                                            have hb4 : y57_0 ≤ 4 := h98.2
                                            have hLe := LI_in hLc ⟨hb0, hb4⟩
                                            refine lv_aload_n hx hb dX1_lists_116 rfl (lv_at hl 6 rfl) ?_
                                            refine lv_aload_n hx hb dX1_lists_117 rfl (lv_at hl 6 rfl) ?_
                                            refine va_get (D := G) (ci := 0) (v := .ref (ad 31)) (C := RX1) (T := TX1) (N := 21) hx hb hts in_X1 hown hK hP 0 (aD_0 _ _ _ _ _ _ _) rfl 4 (by decide) (hts _ q981) (fun _ h9 => h9) rfl dX1_lists_118 ?_
                                            refine lv_iload_n hx hb dX1_lists_121 rfl (lv_at hl 5 rfl) ?_
                                            refine li_aald (q := ad 37) hx hb hK hP 31 5 (aD_31 _ _ _ _ _ _ _) rfl (by decide) (by decide) (by decide) (rfl) dX1_lists_122 ?_
                                            refine lv_iload_n hx hb dX1_lists_123 rfl (lv_at hl 4 rfl) ?_
                                            refine lv_iload hx hb dX1_lists_124 (lv_at hl 2 rfl) ?_
                                            refine lv_iload hx hb dX1_lists_126 (lv_at hl 1 rfl) ?_
                                            refine lv_iload hx hb dX1_lists_128 (lv_at hl 0 rfl) ?_
                                            refine v_tells (mi := 37) (md := ad 37) (a1 := s1) (a2 := r1) (a3 := y57_0) (a4 := t1) hx hb hml hown hts hK hP hD hX 5 (by decide) hS hA (aDk ad ty hv σ _ κc cs (by decide)) (Nat.le_of_ble_eq_true rfl) (Nat.le_of_ble_eq_true rfl) hl.1 (Nat.le_of_ble_eq_true rfl) ⟨Nat.le_of_ble_eq_true rfl, Nat.le_of_ble_eq_true rfl⟩ dX1_lists_130 (fun H locs hP hD hS => ?_)
                                            rw [aDk_set ad ty hv σ _ κc cs (show 5 < 7 by decide)] at hP hD
                                            refine lv_aload_n hx hb dX1_lists_133 rfl (lv_at hl 7 rfl) ?_
                                            refine kM (va_runV (As := [.ref (ad 37), .ref (ad 48)]) (rest := []) ⟨hx, hb, hml, hown, hts⟩ (m_tries_5T l G ad ty hv σ (up (up (up ς 0 ge) 1 gf) 2 (sc (nc))) (setk κc 5 (s1) (r1) (y57_0) (t1)) cs hW hWT hlgT ⟨hs1a, by show s1 ≤ 7; omega, hr1a, by show r1 ≤ 1; omega, hb0, hb4, ht1a, by show t1 ≤ 4; omega⟩ ⟨hnc, by show nc < 400; have := ib_c r1 t1 5; omega⟩ H.size) (cwV 2 hts (lw_V q553 q555 qs21 q76 q556) rfl rfl rfl (by decide +kernel) ⟨Nat.le_of_ble_eq_true rfl, Nat.le_of_ble_eq_true rfl⟩) (pvM (r := (RX1, TX1, 21)) hK hP hD hX 0 (aD_0 _ _ _ _ _ _ _) rfl) rfl rfl hl.1 rfl (lv_room (Nat.le_of_ble_eq_true rfl)) dX1_lists_134 ⟨Nat.le_of_ble_eq_true rfl, Nat.le_of_ble_eq_true rfl⟩) hD hS hA (fun v ws1 H locs hv hP hD hS => ?_)
                                            obtain ⟨gg, gh, nd, rfl, rfl, hadd⟩ := hv
                                            change (mnOk σ (ς 11) (ς 12) 5 s1 r1 y57_0 t1 ∧ gg = ug ge nc (50000 + 1000 * s1 + 100 * r1 + 10 * y57_0 + t1) ∧ gh = ug gf nc (mnV σ 5 s1 y57_0 t1) ∧ nd = nc + 1) ∨ (¬ mnOk σ (ς 11) (ς 12) 5 s1 r1 y57_0 t1 ∧ gg = ge ∧ gh = gf ∧ nd = nc) at hadd
                                            have hLd : LI (lgl σ (ς 11) (ς 12)) (mvV σ) gg gh nd ((50000 + 1000 * s1 + 100 * r1) + 10 * y57_0 + (t1 + 1)) := LI_mv hadd hLe (by omega) (by omega) (by omega) (by omega) (by omega) (by omega) (by omega) (by omega) (by omega) (by omega)
                                            have hnd : nc ≤ nd ∧ nd ≤ nc + 1 ∧ (nd = nc ∨ r1 = 0) := by
                                              rcases hadd with ⟨q1, -, -, q2⟩ | ⟨-, -, -, q2⟩
                                              · have q3 := (mnOk_5.mp q1).2.1; omega
                                              · omega
                                            have hP : va_P G gcl (wD ad ty hv σ (up (up (up ς 0 gg) 1 gh) 2 (sc (nd))) (setk κc 5 (s1) (r1) (y57_0) (t1)) ++ cs) H := hP
                                            have hD : va_D A (wD ad ty hv σ (up (up (up ς 0 gg) 1 gh) 2 (sc (nd))) (setk κc 5 (s1) (r1) (y57_0) (t1)) ++ cs) := hD
                                            refine li_iinc (a := t1) (lv' := [(7, .int (ii (t1 + 1))), (6, .int (ii y57_0)), (5, .int (ii r1)), (4, .int (ii zl)), (3, .int (ii s1)), (2, .int (ii 5)), (0, .ref (ad 0)), (1, .ref (ad 48))]) hx hb dX1_lists_137 hl (k := 0) rfl (by decide) rfl (fun ls hl => ?_)
                                            refine lv_goto (tgt := 94) hx hb dX1_lists_140 (by decide) ?_
                                            exact ih (t1 + 1) (setk κc 5 (s1) (r1) (y57_0) (t1)) gg gh nd (by omega) (by omega) (by omega) (by have := ib_c r1 t1 5; have := ib_c r1 (t1 + 1) 5; omega) (.inl ⟨hb0, hb4, hLd⟩) (by omega) H locs hP hD hS ls (lv_sub hl [0, 1, 2, 3, 4, 5, 6, 7] rfl)
                                      · refine li_if_eq (tgt := 143) hx hb ⟨by decide, by decide⟩ dX1_lists_101 (by decide) (fun c101 => ?_) (fun c101 => ?_)
                                        · exact X94 t1 κc ge gf nc (by omega) (by have := ib_c r1 t1 5; have := ib_c (r1 + 1) 0 5; omega) (by rcases hLc with ⟨q1, q2, q3⟩ | ⟨q1, q2, q3⟩; exact LI_skip q3 (by omega) (by omega) (fun x a c h => by have h1 := hfrom x h (by omega) (by omega); have h2 := lgl_to h; omega); exact LI_skip q3 (by omega) (by omega) (fun x a c h => by have h1 := hfrom x h (by omega) (by omega); have := lgl_fr h; omega)) H locs hP hD hS ls (lv_sub hl [2, 3, 4, 5, 6, 7] rfl)
                                        · exact absurd c101 (by decide)
                                  exact L94 _ 0 κb gc gd nb (by omega) (by omega) (by omega) (by have := ib_c r1 0 5; omega) (by rcases Classical.em (0 ≤ y57_0 ∧ y57_0 ≤ 4) with e | e; exact .inl ⟨e.1, e.2, LI_skip hLb (by omega) (by omega) (fun x a c h => by have := hfrom x h (by omega) (by omega); omega)⟩; exact .inr ⟨e, rfl, hLb⟩) (Nat.lt_succ_self _) H locs hP hD hS ls (lv_sub hl [0, 1, 2, 3, 4, 5, 6, 7] rfl)
                                refine li_if_ne (tgt := 87) hx hb ⟨by omega, by omega⟩ dX1_lists_57 (by decide) (fun c57 => ?_) (fun c57 => ?_)
                                · refine lv_iload hx hb dX1_lists_87 (lv_at hl 1 rfl) ?_
                                  exact J57 _ (⟨by unfold beg; omega, by omega, by omega⟩) H locs hP hD hS ls (lv_sub hl [0, 1, 2, 3, 4, 5] rfl)
                                · refine lv_iload hx hb dX1_lists_60 (lv_at hl 0 rfl) ?_
                                  refine lv_aload_n hx hb dX1_lists_62 rfl (lv_at hl 4 rfl) ?_
                                  refine va_get (D := G) (ci := 0) (v := .ref (ad 1)) (C := RX1) (T := TX1) (N := 21) hx hb hts in_X1 hown hK hP 0 (aD_0 _ _ _ _ _ _ _) rfl 0 (by decide) (hts _ q977) (fun _ h9 => h9) rfl dX1_lists_63 ?_
                                  refine va_get (D := G) (ci := 1) (v := .int (ii (σ 10 0))) (C := RX2) (T := TX2) (N := 13) hx hb hts in_X2 hown hK hP 1 (aD_1 _ _ _ _ _ _ _) rfl 8 (by decide) (hts _ q801) (fun _ h9 => h9) rfl dX1_lists_66 ?_
                                  refine li_icmp_ge (tgt := 82) hx hb ⟨by omega, by omega⟩ (rgi h10a h10b) dX1_lists_69 (by decide) (fun c69 => ?_) (fun c69 => ?_)
                                  · refine li_bipush hx hb dX1_lists_82 (by decide) ?_
                                    refine lv_goto (tgt := 89) hx hb dX1_lists_84 (by decide) ?_
                                    exact J57 _ (⟨by unfold beg; omega, by omega, by omega⟩) H locs hP hD hS ls (lv_sub hl [0, 1, 2, 3, 4, 5] rfl)
                                  · refine lv_aload_n hx hb dX1_lists_72 rfl (lv_at hl 5 rfl) ?_
                                    refine va_get (D := G) (ci := 2) (v := .ref (ad 50)) (C := RX3) (T := TX3) (N := 2) hx hb hts in_X3 hown hK hP 48 (aD_48 _ _ _ _ _ _ _) rfl 1 (by decide) (hts _ q664) (fun _ h9 => h9) rfl dX1_lists_73 ?_
                                    refine lv_iload hx hb dX1_lists_76 (lv_at hl 0 rfl) ?_
                                    refine li_iald (g := (ς 12)) hx hb hK hP 50 0 (aD_50 _ _ _ _ _ _ _) rfl (by omega) (by omega) (by decide) dX1_lists_78 ?_
                                    have r79 := hs1 r1
                                    refine lv_goto (tgt := 89) hx hb dX1_lists_79 (by decide) ?_
                                    exact J57 _ (⟨by unfold beg; omega, by omega, by omega⟩) H locs hP hD hS ls (lv_sub hl [0, 1, 2, 3, 4, 5] rfl)
                              · refine lv_iload hx hb dX1_lists_51 (lv_at hl 0 rfl) ?_
                                refine li_if_ne (tgt := 149) hx hb ⟨by omega, by omega⟩ dX1_lists_53 (by decide) (fun c53 => ?_) (fun c53 => ?_)
                                · exact X39 r1 κb gc gd nb (by omega) (by have := ib_c r1 0 5; omega) (LI_skip hLb (by omega) (by omega) (fun x a c => lgl_rope_b h10a h10b (by omega) (by omega) (by omega) (by omega) (by omega))) H locs hP hD hS ls (lv_sub hl [2, 3, 4, 5] rfl)
                                · refine lv_iload_n hx hb dX1_lists_56 rfl (lv_at hl 2 rfl) ?_
                                  have J57 : ∀ (y57_0 : Int) (_ : beg σ (ς 12) zl s1 r1 y57_0 ∧ -4 ≤ y57_0 ∧ y57_0 ≤ 5) (H : Heap) (locs : List Loc) (_ : va_P G gcl (wD ad ty hv σ (up (up (up ς 0 gc) 1 gd) 2 (sc (nb))) κb ++ cs) H) (_ : va_D A (wD ad ty hv σ (up (up (up ς 0 gc) 1 gd) 2 (sc (nb))) κb ++ cs)) (_ : va_S A s.heap H locs) (ls : Array Slot), lv_has ls 8 [(5, .int (ii r1)), (4, .int (ii zl)), (3, .int (ii s1)), (2, .int (ii 5)), (0, .ref (ad 0)), (1, .ref (ad 48))] → W p l e (rm4 4 0 0 93) s m args below meth c H locs 0 0 Q (F0 m 89 ls [.int (ii y57_0)]) := by
                                    intro y57_0 hj57 H locs hP hD hS ls hl
                                    refine lv_istore (lv' := [(6, .int (ii y57_0)), (5, .int (ii r1)), (4, .int (ii zl)), (3, .int (ii s1)), (2, .int (ii 5)), (0, .ref (ad 0)), (1, .ref (ad 48))]) hx hb dX1_lists_89 hl (by decide) rfl (fun ls hl => ?_)
                                    have hfrom : ∀ x, lgl σ (ς 11) (ς 12) x → (50000 + 1000 * s1 + 100 * r1) ≤ x → x < (50000 + 1000 * s1 + 100 * r1) + 100 → x / 10 % 10 = y57_0 := fun x h a c => lgl_from h (k := 5) (s := s1) (r := r1) (by omega) (by omega) (by omega) hzl2 hj57.1
                                    refine li_iconst hx hb dX1_lists_91 ?_
                                    refine lv_istore (lv' := [(7, .int (ii 0)), (6, .int (ii y57_0)), (5, .int (ii r1)), (4, .int (ii zl)), (3, .int (ii s1)), (2, .int (ii 5)), (0, .ref (ad 0)), (1, .ref (ad 48))]) hx hb dX1_lists_92 hl (by decide) rfl (fun ls hl => ?_)
                                    have X94 : ∀ (t1 : Int) (κc : mem) (ge : Int → Int) (gf : Int → Int) (nc : Int) (_ : 0 ≤ nc) (_ : nc ≤ 280 + 5 * s1 + ib (r1 + 1) 0 5) (_ : LI (lgl σ (ς 11) (ς 12)) (mvV σ) ge gf nc ((50000 + 1000 * s1 + 100 * r1) + 100)) (H : Heap) (locs : List Loc) (_ : va_P G gcl (wD ad ty hv σ (up (up (up ς 0 ge) 1 gf) 2 (sc (nc))) κc ++ cs) H) (_ : va_D A (wD ad ty hv σ (up (up (up ς 0 ge) 1 gf) 2 (sc (nc))) κc ++ cs)) (_ : va_S A s.heap H locs) (ls : Array Slot), lv_has ls 8 [(5, .int (ii r1)), (4, .int (ii zl)), (3, .int (ii s1)), (2, .int (ii 5)), (0, .ref (ad 0)), (1, .ref (ad 48))] → W p l e (rm4 4 0 0 93) s m args below meth c H locs 0 0 Q (F0 m 143 ls []) := by
                                      intro t1 κc ge gf nc hnc hBc hLz H locs hP hD hS ls hl
                                      refine li_iinc (a := r1) (lv' := [(5, .int (ii (r1 + 1))), (4, .int (ii zl)), (3, .int (ii s1)), (2, .int (ii 5)), (0, .ref (ad 0)), (1, .ref (ad 48))]) hx hb dX1_lists_143 hl (k := 0) rfl (by decide) rfl (fun ls hl => ?_)
                                      refine lv_goto (tgt := 39) hx hb dX1_lists_146 (by decide) ?_
                                      exact ih (r1 + 1) κc ge gf nc (by omega) (by omega) (by omega) (hBc) (by rw [show (50000 + 1000 * s1 + 100 * (r1 + 1)) = 50000 + 1000 * s1 + 100 * r1 + 100 by omega]; exact hLz) (by omega) H locs hP hD hS ls (lv_sub hl [0, 1, 2, 3, 4, 5] rfl)
                                    have L94 : ∀ (n : Nat) (t1 : Int) (κc : mem) (ge : Int → Int) (gf : Int → Int) (nc : Int) (_ : 0 ≤ t1) (_ : t1 ≤ σ 8 0) (_ : 0 ≤ nc) (_ : nc ≤ 280 + 5 * s1 + ib r1 t1 5) (_ : LQ (lgl σ (ς 11) (ς 12)) (mvV σ) ge gf nc ((50000 + 1000 * s1 + 100 * r1) + 10 * y57_0 + t1) (50000 + 1000 * s1 + 100 * r1) t1 y57_0) (_ : (5 - t1).toNat < n) (H : Heap) (locs : List Loc) (_ : va_P G gcl (wD ad ty hv σ (up (up (up ς 0 ge) 1 gf) 2 (sc (nc))) κc ++ cs) H) (_ : va_D A (wD ad ty hv σ (up (up (up ς 0 ge) 1 gf) 2 (sc (nc))) κc ++ cs)) (_ : va_S A s.heap H locs) (ls : Array Slot), lv_has ls 8 [(7, .int (ii t1)), (6, .int (ii y57_0)), (5, .int (ii r1)), (4, .int (ii zl)), (3, .int (ii s1)), (2, .int (ii 5)), (0, .ref (ad 0)), (1, .ref (ad 48))] → W p l e (rm4 4 0 0 93) s m args below meth c H locs 0 0 Q (F0 m 94 ls []) := by
                                      intro n
                                      induction n with
                                      | zero =>
                                        intro t1 κc ge gf nc ht1a ht1b hnc hBc hLc hm
                                        exact absurd hm (Nat.not_lt_zero _)
                                      | succ n ih =>
                                        intro t1 κc ge gf nc ht1a ht1b hnc hBc hLc hm H locs hP hD hS ls hl
                                        refine lv_iload hx hb dX1_lists_94 (lv_at hl 1 rfl) ?_
                                        refine li_iconst hx hb dX1_lists_96 ?_
                                        refine li_iconst hx hb dX1_lists_97 ?_
                                        refine kR (va_runS (As := [.int (ii y57_0), .int (ii 0), .int (ii 4)]) (rest := []) ⟨hx, hb, hml, hown, hts⟩ (m_isIn l G ty (wD ad ty hv σ (up (up (up ς 0 ge) 1 gf) 2 (sc (nc))) κc ++ cs) y57_0 0 4 ⟨by omega, by omega⟩ ⟨by decide, by decide⟩ ⟨by decide, by decide⟩) (va_cwS 3 hts (lw_S q117 q118 q76 q119) rfl rfl rfl (by decide +kernel) ⟨Nat.le_of_ble_eq_true rfl, Nat.le_of_ble_eq_true rfl⟩) (psR hK hP hD hX) rfl rfl hl.1 rfl (lv_room (Nat.le_of_ble_eq_true rfl)) dX1_lists_98 ⟨Nat.le_of_ble_eq_true rfl, Nat.le_of_ble_eq_true rfl⟩) (fun v hv => ?_)
                                        obtain ⟨z98, rfl, ⟨rfl, h98⟩ | ⟨rfl, h98⟩⟩ := hv
                                        · refine li_if_eq (tgt := 143) hx hb ⟨by decide, by decide⟩ dX1_lists_101 (by decide) (fun c101 => ?_) (fun c101 => ?_)
                                          · exact absurd c101 (by decide)
                                          · refine lv_iload hx hb dX1_lists_104 (lv_at hl 0 rfl) ?_
                                            refine lv_aload_n hx hb dX1_lists_106 rfl (lv_at hl 6 rfl) ?_
                                            refine va_get (D := G) (ci := 0) (v := .ref (ad 1)) (C := RX1) (T := TX1) (N := 21) hx hb hts in_X1 hown hK hP 0 (aD_0 _ _ _ _ _ _ _) rfl 0 (by decide) (hts _ q977) (fun _ h9 => h9) rfl dX1_lists_107 ?_
                                            refine va_get (D := G) (ci := 1) (v := .int (ii (σ 8 0))) (C := RX2) (T := TX2) (N := 13) hx hb hts in_X2 hown hK hP 1 (aD_1 _ _ _ _ _ _ _) rfl 4 (by decide) (hts _ q785) (fun _ h9 => h9) rfl dX1_lists_110 ?_
                                            refine li_icmp_ge (tgt := 143) hx hb ⟨by omega, by omega⟩ (rgi h8a h8b) dX1_lists_113 (by decide) (fun c113 => ?_) (fun c113 => ?_)
                                            · exact X94 t1 κc ge gf nc (by omega) (by have := ib_c r1 t1 5; have := ib_c (r1 + 1) 0 5; omega) (by rcases hLc with ⟨q1, q2, q3⟩ | ⟨q1, q2, q3⟩; exact LI_skip q3 (by omega) (by omega) (fun x a c h => by have h1 := hfrom x h (by omega) (by omega); have h2 := lgl_to h; omega); exact LI_skip q3 (by omega) (by omega) (fun x a c h => by have h1 := hfrom x h (by omega) (by omega); have := lgl_fr h; omega)) H locs hP hD hS ls (lv_sub hl [2, 3, 4, 5, 6, 7] rfl)
                                            · have hb0 : 0 ≤ y57_0 := h98.1
                                              have hb4 : y57_0 ≤ 4 := h98.2
                                              have hLe := LI_in hLc ⟨hb0, hb4⟩
                                              refine lv_aload_n hx hb dX1_lists_116 rfl (lv_at hl 6 rfl) ?_
                                              refine lv_aload_n hx hb dX1_lists_117 rfl (lv_at hl 6 rfl) ?_
                                              refine va_get (D := G) (ci := 0) (v := .ref (ad 31)) (C := RX1) (T := TX1) (N := 21) hx hb hts in_X1 hown hK hP 0 (aD_0 _ _ _ _ _ _ _) rfl 4 (by decide) (hts _ q981) (fun _ h9 => h9) rfl dX1_lists_118 ?_
                                              refine lv_iload_n hx hb dX1_lists_121 rfl (lv_at hl 5 rfl) ?_
                                              refine li_aald (q := ad 37) hx hb hK hP 31 5 (aD_31 _ _ _ _ _ _ _) rfl (by decide) (by decide) (by decide) (rfl) dX1_lists_122 ?_
                                              refine lv_iload_n hx hb dX1_lists_123 rfl (lv_at hl 4 rfl) ?_
                                              refine lv_iload hx hb dX1_lists_124 (lv_at hl 2 rfl) ?_
                                              refine lv_iload hx hb dX1_lists_126 (lv_at hl 1 rfl) ?_
                                              refine lv_iload hx hb dX1_lists_128 (lv_at hl 0 rfl) ?_
                                              refine v_tells (mi := 37) (md := ad 37) (a1 := s1) (a2 := r1) (a3 := y57_0) (a4 := t1) hx hb hml hown hts hK hP hD hX 5 (by decide) hS hA (aDk ad ty hv σ _ κc cs (by decide)) (Nat.le_of_ble_eq_true rfl) (Nat.le_of_ble_eq_true rfl) hl.1 (Nat.le_of_ble_eq_true rfl) ⟨Nat.le_of_ble_eq_true rfl, Nat.le_of_ble_eq_true rfl⟩ dX1_lists_130 (fun H locs hP hD hS => ?_)
                                              rw [aDk_set ad ty hv σ _ κc cs (show 5 < 7 by decide)] at hP hD
                                              refine lv_aload_n hx hb dX1_lists_133 rfl (lv_at hl 7 rfl) ?_
                                              refine kM (va_runV (As := [.ref (ad 37), .ref (ad 48)]) (rest := []) ⟨hx, hb, hml, hown, hts⟩ (m_tries_5T l G ad ty hv σ (up (up (up ς 0 ge) 1 gf) 2 (sc (nc))) (setk κc 5 (s1) (r1) (y57_0) (t1)) cs hW hWT hlgT ⟨hs1a, by show s1 ≤ 7; omega, hr1a, by show r1 ≤ 1; omega, hb0, hb4, ht1a, by show t1 ≤ 4; omega⟩ ⟨hnc, by show nc < 400; have := ib_c r1 t1 5; omega⟩ H.size) (cwV 2 hts (lw_V q553 q555 qs21 q76 q556) rfl rfl rfl (by decide +kernel) ⟨Nat.le_of_ble_eq_true rfl, Nat.le_of_ble_eq_true rfl⟩) (pvM (r := (RX1, TX1, 21)) hK hP hD hX 0 (aD_0 _ _ _ _ _ _ _) rfl) rfl rfl hl.1 rfl (lv_room (Nat.le_of_ble_eq_true rfl)) dX1_lists_134 ⟨Nat.le_of_ble_eq_true rfl, Nat.le_of_ble_eq_true rfl⟩) hD hS hA (fun v ws1 H locs hv hP hD hS => ?_)
                                              obtain ⟨gg, gh, nd, rfl, rfl, hadd⟩ := hv
                                              change (mnOk σ (ς 11) (ς 12) 5 s1 r1 y57_0 t1 ∧ gg = ug ge nc (50000 + 1000 * s1 + 100 * r1 + 10 * y57_0 + t1) ∧ gh = ug gf nc (mnV σ 5 s1 y57_0 t1) ∧ nd = nc + 1) ∨ (¬ mnOk σ (ς 11) (ς 12) 5 s1 r1 y57_0 t1 ∧ gg = ge ∧ gh = gf ∧ nd = nc) at hadd
                                              have hLd : LI (lgl σ (ς 11) (ς 12)) (mvV σ) gg gh nd ((50000 + 1000 * s1 + 100 * r1) + 10 * y57_0 + (t1 + 1)) := LI_mv hadd hLe (by omega) (by omega) (by omega) (by omega) (by omega) (by omega) (by omega) (by omega) (by omega) (by omega)
                                              have hnd : nc ≤ nd ∧ nd ≤ nc + 1 ∧ (nd = nc ∨ r1 = 0) := by
                                                rcases hadd with ⟨q1, -, -, q2⟩ | ⟨-, -, -, q2⟩
                                                · have q3 := (mnOk_5.mp q1).2.1; omega
                                                · omega
                                              have hP : va_P G gcl (wD ad ty hv σ (up (up (up ς 0 gg) 1 gh) 2 (sc (nd))) (setk κc 5 (s1) (r1) (y57_0) (t1)) ++ cs) H := hP
                                              have hD : va_D A (wD ad ty hv σ (up (up (up ς 0 gg) 1 gh) 2 (sc (nd))) (setk κc 5 (s1) (r1) (y57_0) (t1)) ++ cs) := hD
                                              refine li_iinc (a := t1) (lv' := [(7, .int (ii (t1 + 1))), (6, .int (ii y57_0)), (5, .int (ii r1)), (4, .int (ii zl)), (3, .int (ii s1)), (2, .int (ii 5)), (0, .ref (ad 0)), (1, .ref (ad 48))]) hx hb dX1_lists_137 hl (k := 0) rfl (by decide) rfl (fun ls hl => ?_)
                                              refine lv_goto (tgt := 94) hx hb dX1_lists_140 (by decide) ?_
                                              exact ih (t1 + 1) (setk κc 5 (s1) (r1) (y57_0) (t1)) gg gh nd (by omega) (by omega) (by omega) (by have := ib_c r1 t1 5; have := ib_c r1 (t1 + 1) 5; omega) (.inl ⟨hb0, hb4, hLd⟩) (by omega) H locs hP hD hS ls (lv_sub hl [0, 1, 2, 3, 4, 5, 6, 7] rfl)
                                        · refine li_if_eq (tgt := 143) hx hb ⟨by decide, by decide⟩ dX1_lists_101 (by decide) (fun c101 => ?_) (fun c101 => ?_)
                                          · exact X94 t1 κc ge gf nc (by omega) (by have := ib_c r1 t1 5; have := ib_c (r1 + 1) 0 5; omega) (by rcases hLc with ⟨q1, q2, q3⟩ | ⟨q1, q2, q3⟩; exact LI_skip q3 (by omega) (by omega) (fun x a c h => by have h1 := hfrom x h (by omega) (by omega); have h2 := lgl_to h; omega); exact LI_skip q3 (by omega) (by omega) (fun x a c h => by have h1 := hfrom x h (by omega) (by omega); have := lgl_fr h; omega)) H locs hP hD hS ls (lv_sub hl [2, 3, 4, 5, 6, 7] rfl)
                                          · exact absurd c101 (by decide)
                                    exact L94 _ 0 κb gc gd nb (by omega) (by omega) (by omega) (by have := ib_c r1 0 5; omega) (by rcases Classical.em (0 ≤ y57_0 ∧ y57_0 ≤ 4) with e | e; exact .inl ⟨e.1, e.2, LI_skip hLb (by omega) (by omega) (fun x a c h => by have := hfrom x h (by omega) (by omega); omega)⟩; exact .inr ⟨e, rfl, hLb⟩) (Nat.lt_succ_self _) H locs hP hD hS ls (lv_sub hl [0, 1, 2, 3, 4, 5, 6, 7] rfl)
                                  refine li_if_ne (tgt := 87) hx hb ⟨by omega, by omega⟩ dX1_lists_57 (by decide) (fun c57 => ?_) (fun c57 => ?_)
                                  · refine lv_iload hx hb dX1_lists_87 (lv_at hl 1 rfl) ?_
                                    exact J57 _ (⟨by unfold beg; omega, by omega, by omega⟩) H locs hP hD hS ls (lv_sub hl [0, 1, 2, 3, 4, 5] rfl)
                                  · refine lv_iload hx hb dX1_lists_60 (lv_at hl 0 rfl) ?_
                                    refine lv_aload_n hx hb dX1_lists_62 rfl (lv_at hl 4 rfl) ?_
                                    refine va_get (D := G) (ci := 0) (v := .ref (ad 1)) (C := RX1) (T := TX1) (N := 21) hx hb hts in_X1 hown hK hP 0 (aD_0 _ _ _ _ _ _ _) rfl 0 (by decide) (hts _ q977) (fun _ h9 => h9) rfl dX1_lists_63 ?_
                                    refine va_get (D := G) (ci := 1) (v := .int (ii (σ 10 0))) (C := RX2) (T := TX2) (N := 13) hx hb hts in_X2 hown hK hP 1 (aD_1 _ _ _ _ _ _ _) rfl 8 (by decide) (hts _ q801) (fun _ h9 => h9) rfl dX1_lists_66 ?_
                                    refine li_icmp_ge (tgt := 82) hx hb ⟨by omega, by omega⟩ (rgi h10a h10b) dX1_lists_69 (by decide) (fun c69 => ?_) (fun c69 => ?_)
                                    · refine li_bipush hx hb dX1_lists_82 (by decide) ?_
                                      refine lv_goto (tgt := 89) hx hb dX1_lists_84 (by decide) ?_
                                      exact J57 _ (⟨by unfold beg; omega, by omega, by omega⟩) H locs hP hD hS ls (lv_sub hl [0, 1, 2, 3, 4, 5] rfl)
                                    · refine lv_aload_n hx hb dX1_lists_72 rfl (lv_at hl 5 rfl) ?_
                                      refine va_get (D := G) (ci := 2) (v := .ref (ad 50)) (C := RX3) (T := TX3) (N := 2) hx hb hts in_X3 hown hK hP 48 (aD_48 _ _ _ _ _ _ _) rfl 1 (by decide) (hts _ q664) (fun _ h9 => h9) rfl dX1_lists_73 ?_
                                      refine lv_iload hx hb dX1_lists_76 (lv_at hl 0 rfl) ?_
                                      refine li_iald (g := (ς 12)) hx hb hK hP 50 0 (aD_50 _ _ _ _ _ _ _) rfl (by omega) (by omega) (by decide) dX1_lists_78 ?_
                                      have r79 := hs1 r1
                                      refine lv_goto (tgt := 89) hx hb dX1_lists_79 (by decide) ?_
                                      exact J57 _ (⟨by unfold beg; omega, by omega, by omega⟩) H locs hP hD hS ls (lv_sub hl [0, 1, 2, 3, 4, 5] rfl)
                          exact L39 _ 0 κa ga gb na (by omega) (by omega) (by omega) (by have := ib_c 0 0 5; omega) (by rw [show (50000 + 1000 * s1 + 100 * (0 : Int)) = 50000 + 1000 * s1 by omega]; exact hLa) (Nat.lt_succ_self _) H locs hP hD hS ls (lv_sub hl [0, 1, 2, 3, 4, 5] rfl)
                    exact L15 _ 0 κa ga gb na (by omega) (by omega) (by omega) (by omega) (by omega) (by first | exact LI_skip (LI_0 _ _ _ _) (by decide) (by decide) (fun x a c => lgl_0 (by omega)) | (rw [show (50000 + 1000 * (0 : Int)) = 50000 by rfl]; exact hLx)) (Nat.lt_succ_self _) H locs hP hD hS ls (lv_sub hl [0, 1, 2, 3] rfl)
                have L15 : ∀ (n : Nat) (s1 : Int) (κa : mem) (ga : Int → Int) (gb : Int → Int) (na : Int) (_ : 0 ≤ s1) (_ : s1 ≤ p2 (σ 9 0)) (_ : s1 ≤ 8) (_ : 0 ≤ na) (_ : na ≤ 200 + 10 * s1) (_ : LI (lgl σ (ς 11) (ς 12)) (mvV σ) ga gb na (40000 + 1000 * s1)) (_ : (8 - s1).toNat < n) (H : Heap) (locs : List Loc) (_ : va_P G gcl (wD ad ty hv σ (up (up (up ς 0 ga) 1 gb) 2 (sc (na))) κa ++ cs) H) (_ : va_D A (wD ad ty hv σ (up (up (up ς 0 ga) 1 gb) 2 (sc (na))) κa ++ cs)) (_ : va_S A s.heap H locs) (ls : Array Slot), lv_has ls 8 [(3, .int (ii s1)), (2, .int (ii 4)), (0, .ref (ad 0)), (1, .ref (ad 48))] → W p l e (rm4 4 0 0 93) s m args below meth c H locs 0 0 Q (F0 m 15 ls []) := by
                  intro n
                  induction n with
                  | zero =>
                    intro s1 κa ga gb na hs1a hs1b hs7 hna hBa hLa hm
                    exact absurd hm (Nat.not_lt_zero _)
                  | succ n ih =>
                    intro s1 κa ga gb na hs1a hs1b hs7 hna hBa hLa hm H locs hP hD hS ls hl
                    refine lv_iload_n hx hb dX1_lists_15 rfl (lv_at hl 0 rfl) ?_
                    refine li_iconst hx hb dX1_lists_16 ?_
                    refine lv_aload_n hx hb dX1_lists_17 rfl (lv_at hl 2 rfl) ?_
                    refine va_get (D := G) (ci := 0) (v := .ref (ad 1)) (C := RX1) (T := TX1) (N := 21) hx hb hts in_X1 hown hK hP 0 (aD_0 _ _ _ _ _ _ _) rfl 0 (by decide) (hts _ q977) (fun _ h9 => h9) rfl dX1_lists_18 ?_
                    refine va_get (D := G) (ci := 1) (v := .int (ii (σ 9 0))) (C := RX2) (T := TX2) (N := 13) hx hb hts in_X2 hown hK hP 1 (aD_1 _ _ _ _ _ _ _) rfl 6 (by decide) (hts _ q790) (fun _ h9 => h9) rfl dX1_lists_21 ?_
                    refine lv_ishl hx hb dX1_lists_24 ?_
                    refine li_topx (z := p2 (σ 9 0)) (ii_shl1 h9a h9b) ?_
                    refine li_icmp_ge (tgt := 155) hx hb ⟨by omega, by omega⟩ ⟨by omega, by omega⟩ dX1_lists_25 (by decide) (fun c25 => ?_) (fun c25 => ?_)
                    · exact X15 s1 κa ga gb na (by omega) (by omega) (LI_skip hLa (by omega) (by omega) (fun x a c => lgl_set h9a h9b (by omega) (by omega))) H locs hP hD hS ls (lv_sub hl [1, 2, 3] rfl)
                    · refine lv_aload_n hx hb dX1_lists_28 rfl (lv_at hl 2 rfl) ?_
                      refine lv_iload_n hx hb dX1_lists_29 rfl (lv_at hl 0 rfl) ?_
                      refine lv_aload_n hx hb dX1_lists_30 rfl (lv_at hl 3 rfl) ?_
                      refine kR (va_runV (As := [.int (ii s1), .ref (ad 48)]) (rest := []) ⟨hx, hb, hml, hown, hts⟩ (m_ledgeOfT l G ad ty hv σ (up (up (up ς 0 ga) 1 gb) 2 (sc (na))) κa cs s1 hW hWT ⟨by omega, by omega⟩) (cwV 2 hts (lw_V q549 q551 qs20 q76 q552) rfl rfl rfl (by decide +kernel) ⟨Nat.le_of_ble_eq_true rfl, Nat.le_of_ble_eq_true rfl⟩) (pvR (r := (RX1, TX1, 21)) hK hP hD hX 0 (aD_0 _ _ _ _ _ _ _) rfl) rfl rfl hl.1 rfl (lv_room (Nat.le_of_ble_eq_true rfl)) dX1_lists_31 ⟨Nat.le_of_ble_eq_true rfl, Nat.le_of_ble_eq_true rfl⟩) (fun v hv => ?_)
                      obtain ⟨zl, rfl, hzl, hzl2⟩ := hv
                      replace hzl : -4 ≤ zl ∧ zl ≤ 4 := by omega
                      refine lv_istore (lv' := [(4, .int (ii zl)), (3, .int (ii s1)), (2, .int (ii 4)), (0, .ref (ad 0)), (1, .ref (ad 48))]) hx hb dX1_lists_34 hl (by decide) rfl (fun ls hl => ?_)
                      refine li_iconst hx hb dX1_lists_36 ?_
                      refine lv_istore (lv' := [(5, .int (ii 0)), (4, .int (ii zl)), (3, .int (ii s1)), (2, .int (ii 4)), (0, .ref (ad 0)), (1, .ref (ad 48))]) hx hb dX1_lists_37 hl (by decide) rfl (fun ls hl => ?_)
                      have X39 : ∀ (r1 : Int) (κb : mem) (gc : Int → Int) (gd : Int → Int) (nb : Int) (_ : 0 ≤ nb) (_ : nb ≤ 200 + 10 * (s1 + 1)) (_ : LI (lgl σ (ς 11) (ς 12)) (mvV σ) gc gd nb (40000 + 1000 * s1 + 1000)) (H : Heap) (locs : List Loc) (_ : va_P G gcl (wD ad ty hv σ (up (up (up ς 0 gc) 1 gd) 2 (sc (nb))) κb ++ cs) H) (_ : va_D A (wD ad ty hv σ (up (up (up ς 0 gc) 1 gd) 2 (sc (nb))) κb ++ cs)) (_ : va_S A s.heap H locs) (ls : Array Slot), lv_has ls 8 [(3, .int (ii s1)), (2, .int (ii 4)), (0, .ref (ad 0)), (1, .ref (ad 48))] → W p l e (rm4 4 0 0 93) s m args below meth c H locs 0 0 Q (F0 m 149 ls []) := by
                        intro r1 κb gc gd nb hnb hBb hLy H locs hP hD hS ls hl
                        refine li_iinc (a := s1) (lv' := [(3, .int (ii (s1 + 1))), (2, .int (ii 4)), (0, .ref (ad 0)), (1, .ref (ad 48))]) hx hb dX1_lists_149 hl (k := 0) rfl (by decide) rfl (fun ls hl => ?_)
                        refine lv_goto (tgt := 15) hx hb dX1_lists_152 (by decide) ?_
                        exact ih (s1 + 1) κb gc gd nb (by omega) (by omega) (by omega) (by omega) (hBb) (by rw [show (40000 + 1000 * (s1 + 1)) = 40000 + 1000 * s1 + 1000 by omega]; exact hLy) (by omega) H locs hP hD hS ls (lv_sub hl [0, 1, 2, 3] rfl)
                      have L39 : ∀ (n : Nat) (r1 : Int) (κb : mem) (gc : Int → Int) (gd : Int → Int) (nb : Int) (_ : 0 ≤ r1) (_ : r1 ≤ 2) (_ : 0 ≤ nb) (_ : nb ≤ 200 + 10 * s1 + 5 * r1) (_ : LI (lgl σ (ς 11) (ς 12)) (mvV σ) gc gd nb (40000 + 1000 * s1 + 100 * r1)) (_ : (2 - r1).toNat < n) (H : Heap) (locs : List Loc) (_ : va_P G gcl (wD ad ty hv σ (up (up (up ς 0 gc) 1 gd) 2 (sc (nb))) κb ++ cs) H) (_ : va_D A (wD ad ty hv σ (up (up (up ς 0 gc) 1 gd) 2 (sc (nb))) κb ++ cs)) (_ : va_S A s.heap H locs) (ls : Array Slot), lv_has ls 8 [(5, .int (ii r1)), (4, .int (ii zl)), (3, .int (ii s1)), (2, .int (ii 4)), (0, .ref (ad 0)), (1, .ref (ad 48))] → W p l e (rm4 4 0 0 93) s m args below meth c H locs 0 0 Q (F0 m 39 ls []) := by
                        intro n
                        induction n with
                        | zero =>
                          intro r1 κb gc gd nb hr1a hr1b hnb hBb hLb hm
                          exact absurd hm (Nat.not_lt_zero _)
                        | succ n ih =>
                          intro r1 κb gc gd nb hr1a hr1b hnb hBb hLb hm H locs hP hD hS ls hl
                          refine lv_iload hx hb dX1_lists_39 (lv_at hl 0 rfl) ?_
                          refine lv_aload_n hx hb dX1_lists_41 rfl (lv_at hl 4 rfl) ?_
                          refine va_get (D := G) (ci := 0) (v := .ref (ad 1)) (C := RX1) (T := TX1) (N := 21) hx hb hts in_X1 hown hK hP 0 (aD_0 _ _ _ _ _ _ _) rfl 0 (by decide) (hts _ q977) (fun _ h9 => h9) rfl dX1_lists_42 ?_
                          refine va_get (D := G) (ci := 1) (v := .int (ii (σ 10 0))) (C := RX2) (T := TX2) (N := 13) hx hb hts in_X2 hown hK hP 1 (aD_1 _ _ _ _ _ _ _) rfl 8 (by decide) (hts _ q801) (fun _ h9 => h9) rfl dX1_lists_45 ?_
                          refine li_icmp_lt (tgt := 56) hx hb ⟨by omega, by omega⟩ (rgi h10a h10b) dX1_lists_48 (by decide) (fun c48 => ?_) (fun c48 => ?_)
                          · refine lv_iload_n hx hb dX1_lists_56 rfl (lv_at hl 2 rfl) ?_
                            have J57 : ∀ (y57_0 : Int) (_ : beg σ (ς 12) zl s1 r1 y57_0 ∧ -4 ≤ y57_0 ∧ y57_0 ≤ 5) (H : Heap) (locs : List Loc) (_ : va_P G gcl (wD ad ty hv σ (up (up (up ς 0 gc) 1 gd) 2 (sc (nb))) κb ++ cs) H) (_ : va_D A (wD ad ty hv σ (up (up (up ς 0 gc) 1 gd) 2 (sc (nb))) κb ++ cs)) (_ : va_S A s.heap H locs) (ls : Array Slot), lv_has ls 8 [(5, .int (ii r1)), (4, .int (ii zl)), (3, .int (ii s1)), (2, .int (ii 4)), (0, .ref (ad 0)), (1, .ref (ad 48))] → W p l e (rm4 4 0 0 93) s m args below meth c H locs 0 0 Q (F0 m 89 ls [.int (ii y57_0)]) := by
                              intro y57_0 hj57 H locs hP hD hS ls hl
                              refine lv_istore (lv' := [(6, .int (ii y57_0)), (5, .int (ii r1)), (4, .int (ii zl)), (3, .int (ii s1)), (2, .int (ii 4)), (0, .ref (ad 0)), (1, .ref (ad 48))]) hx hb dX1_lists_89 hl (by decide) rfl (fun ls hl => ?_)
                              have hfrom : ∀ x, lgl σ (ς 11) (ς 12) x → (40000 + 1000 * s1 + 100 * r1) ≤ x → x < (40000 + 1000 * s1 + 100 * r1) + 100 → x / 10 % 10 = y57_0 := fun x h a c => lgl_from h (k := 4) (s := s1) (r := r1) (by omega) (by omega) (by omega) hzl2 hj57.1
                              refine li_iconst hx hb dX1_lists_91 ?_
                              refine lv_istore (lv' := [(7, .int (ii 0)), (6, .int (ii y57_0)), (5, .int (ii r1)), (4, .int (ii zl)), (3, .int (ii s1)), (2, .int (ii 4)), (0, .ref (ad 0)), (1, .ref (ad 48))]) hx hb dX1_lists_92 hl (by decide) rfl (fun ls hl => ?_)
                              have X94 : ∀ (t1 : Int) (κc : mem) (ge : Int → Int) (gf : Int → Int) (nc : Int) (_ : 0 ≤ nc) (_ : nc ≤ 200 + 10 * s1 + 5 * (r1 + 1)) (_ : LI (lgl σ (ς 11) (ς 12)) (mvV σ) ge gf nc ((40000 + 1000 * s1 + 100 * r1) + 100)) (H : Heap) (locs : List Loc) (_ : va_P G gcl (wD ad ty hv σ (up (up (up ς 0 ge) 1 gf) 2 (sc (nc))) κc ++ cs) H) (_ : va_D A (wD ad ty hv σ (up (up (up ς 0 ge) 1 gf) 2 (sc (nc))) κc ++ cs)) (_ : va_S A s.heap H locs) (ls : Array Slot), lv_has ls 8 [(5, .int (ii r1)), (4, .int (ii zl)), (3, .int (ii s1)), (2, .int (ii 4)), (0, .ref (ad 0)), (1, .ref (ad 48))] → W p l e (rm4 4 0 0 93) s m args below meth c H locs 0 0 Q (F0 m 143 ls []) := by
                                intro t1 κc ge gf nc hnc hBc hLz H locs hP hD hS ls hl
                                refine li_iinc (a := r1) (lv' := [(5, .int (ii (r1 + 1))), (4, .int (ii zl)), (3, .int (ii s1)), (2, .int (ii 4)), (0, .ref (ad 0)), (1, .ref (ad 48))]) hx hb dX1_lists_143 hl (k := 0) rfl (by decide) rfl (fun ls hl => ?_)
                                refine lv_goto (tgt := 39) hx hb dX1_lists_146 (by decide) ?_
                                exact ih (r1 + 1) κc ge gf nc (by omega) (by omega) (by omega) (hBc) (by rw [show (40000 + 1000 * s1 + 100 * (r1 + 1)) = 40000 + 1000 * s1 + 100 * r1 + 100 by omega]; exact hLz) (by omega) H locs hP hD hS ls (lv_sub hl [0, 1, 2, 3, 4, 5] rfl)
                              have L94 : ∀ (n : Nat) (t1 : Int) (κc : mem) (ge : Int → Int) (gf : Int → Int) (nc : Int) (_ : 0 ≤ t1) (_ : t1 ≤ σ 8 0) (_ : 0 ≤ nc) (_ : nc ≤ 200 + 10 * s1 + 5 * r1 + t1) (_ : LQ (lgl σ (ς 11) (ς 12)) (mvV σ) ge gf nc ((40000 + 1000 * s1 + 100 * r1) + 10 * y57_0 + t1) (40000 + 1000 * s1 + 100 * r1) t1 y57_0) (_ : (5 - t1).toNat < n) (H : Heap) (locs : List Loc) (_ : va_P G gcl (wD ad ty hv σ (up (up (up ς 0 ge) 1 gf) 2 (sc (nc))) κc ++ cs) H) (_ : va_D A (wD ad ty hv σ (up (up (up ς 0 ge) 1 gf) 2 (sc (nc))) κc ++ cs)) (_ : va_S A s.heap H locs) (ls : Array Slot), lv_has ls 8 [(7, .int (ii t1)), (6, .int (ii y57_0)), (5, .int (ii r1)), (4, .int (ii zl)), (3, .int (ii s1)), (2, .int (ii 4)), (0, .ref (ad 0)), (1, .ref (ad 48))] → W p l e (rm4 4 0 0 93) s m args below meth c H locs 0 0 Q (F0 m 94 ls []) := by
                                intro n
                                induction n with
                                | zero =>
                                  intro t1 κc ge gf nc ht1a ht1b hnc hBc hLc hm
                                  exact absurd hm (Nat.not_lt_zero _)
                                | succ n ih =>
                                  intro t1 κc ge gf nc ht1a ht1b hnc hBc hLc hm H locs hP hD hS ls hl
                                  refine lv_iload hx hb dX1_lists_94 (lv_at hl 1 rfl) ?_
                                  refine li_iconst hx hb dX1_lists_96 ?_
                                  refine li_iconst hx hb dX1_lists_97 ?_
                                  refine kR (va_runS (As := [.int (ii y57_0), .int (ii 0), .int (ii 4)]) (rest := []) ⟨hx, hb, hml, hown, hts⟩ (m_isIn l G ty (wD ad ty hv σ (up (up (up ς 0 ge) 1 gf) 2 (sc (nc))) κc ++ cs) y57_0 0 4 ⟨by omega, by omega⟩ ⟨by decide, by decide⟩ ⟨by decide, by decide⟩) (va_cwS 3 hts (lw_S q117 q118 q76 q119) rfl rfl rfl (by decide +kernel) ⟨Nat.le_of_ble_eq_true rfl, Nat.le_of_ble_eq_true rfl⟩) (psR hK hP hD hX) rfl rfl hl.1 rfl (lv_room (Nat.le_of_ble_eq_true rfl)) dX1_lists_98 ⟨Nat.le_of_ble_eq_true rfl, Nat.le_of_ble_eq_true rfl⟩) (fun v hv => ?_)
                                  obtain ⟨z98, rfl, ⟨rfl, h98⟩ | ⟨rfl, h98⟩⟩ := hv
                                  · refine li_if_eq (tgt := 143) hx hb ⟨by decide, by decide⟩ dX1_lists_101 (by decide) (fun c101 => ?_) (fun c101 => ?_)
                                    · exact absurd c101 (by decide)
                                    · refine lv_iload hx hb dX1_lists_104 (lv_at hl 0 rfl) ?_
                                      refine lv_aload_n hx hb dX1_lists_106 rfl (lv_at hl 6 rfl) ?_
                                      refine va_get (D := G) (ci := 0) (v := .ref (ad 1)) (C := RX1) (T := TX1) (N := 21) hx hb hts in_X1 hown hK hP 0 (aD_0 _ _ _ _ _ _ _) rfl 0 (by decide) (hts _ q977) (fun _ h9 => h9) rfl dX1_lists_107 ?_
                                      refine va_get (D := G) (ci := 1) (v := .int (ii (σ 8 0))) (C := RX2) (T := TX2) (N := 13) hx hb hts in_X2 hown hK hP 1 (aD_1 _ _ _ _ _ _ _) rfl 4 (by decide) (hts _ q785) (fun _ h9 => h9) rfl dX1_lists_110 ?_
                                      refine li_icmp_ge (tgt := 143) hx hb ⟨by omega, by omega⟩ (rgi h8a h8b) dX1_lists_113 (by decide) (fun c113 => ?_) (fun c113 => ?_)
                                      · exact X94 t1 κc ge gf nc (by omega) (by omega) (by rcases hLc with ⟨q1, q2, q3⟩ | ⟨q1, q2, q3⟩; exact LI_skip q3 (by omega) (by omega) (fun x a c h => by have h1 := hfrom x h (by omega) (by omega); have h2 := lgl_to h; omega); exact LI_skip q3 (by omega) (by omega) (fun x a c h => by have h1 := hfrom x h (by omega) (by omega); have := lgl_fr h; omega)) H locs hP hD hS ls (lv_sub hl [2, 3, 4, 5, 6, 7] rfl)
                                      · have hb0 : 0 ≤ y57_0 := h98.1
                                        have hb4 : y57_0 ≤ 4 := h98.2
                                        have hLe := LI_in hLc ⟨hb0, hb4⟩
                                        refine lv_aload_n hx hb dX1_lists_116 rfl (lv_at hl 6 rfl) ?_
                                        refine lv_aload_n hx hb dX1_lists_117 rfl (lv_at hl 6 rfl) ?_
                                        refine va_get (D := G) (ci := 0) (v := .ref (ad 31)) (C := RX1) (T := TX1) (N := 21) hx hb hts in_X1 hown hK hP 0 (aD_0 _ _ _ _ _ _ _) rfl 4 (by decide) (hts _ q981) (fun _ h9 => h9) rfl dX1_lists_118 ?_
                                        refine lv_iload_n hx hb dX1_lists_121 rfl (lv_at hl 5 rfl) ?_
                                        refine li_aald (q := ad 36) hx hb hK hP 31 5 (aD_31 _ _ _ _ _ _ _) rfl (by decide) (by decide) (by decide) (rfl) dX1_lists_122 ?_
                                        refine lv_iload_n hx hb dX1_lists_123 rfl (lv_at hl 4 rfl) ?_
                                        refine lv_iload hx hb dX1_lists_124 (lv_at hl 2 rfl) ?_
                                        refine lv_iload hx hb dX1_lists_126 (lv_at hl 1 rfl) ?_
                                        refine lv_iload hx hb dX1_lists_128 (lv_at hl 0 rfl) ?_
                                        refine v_tells (mi := 36) (md := ad 36) (a1 := s1) (a2 := r1) (a3 := y57_0) (a4 := t1) hx hb hml hown hts hK hP hD hX 4 (by decide) hS hA (aDk ad ty hv σ _ κc cs (by decide)) (Nat.le_of_ble_eq_true rfl) (Nat.le_of_ble_eq_true rfl) hl.1 (Nat.le_of_ble_eq_true rfl) ⟨Nat.le_of_ble_eq_true rfl, Nat.le_of_ble_eq_true rfl⟩ dX1_lists_130 (fun H locs hP hD hS => ?_)
                                        rw [aDk_set ad ty hv σ _ κc cs (show 4 < 7 by decide)] at hP hD
                                        refine lv_aload_n hx hb dX1_lists_133 rfl (lv_at hl 7 rfl) ?_
                                        refine kM (va_runV (As := [.ref (ad 36), .ref (ad 48)]) (rest := []) ⟨hx, hb, hml, hown, hts⟩ (m_tries_4T l G ad ty hv σ (up (up (up ς 0 ge) 1 gf) 2 (sc (nc))) (setk κc 4 (s1) (r1) (y57_0) (t1)) cs hW hWT hlgT ⟨hs1a, by show s1 ≤ 7; omega, hr1a, by show r1 ≤ 1; omega, hb0, hb4, ht1a, by show t1 ≤ 4; omega⟩ ⟨hnc, by show nc < 400; omega⟩ H.size) (cwV 2 hts (lw_V q553 q555 qs21 q76 q556) rfl rfl rfl (by decide +kernel) ⟨Nat.le_of_ble_eq_true rfl, Nat.le_of_ble_eq_true rfl⟩) (pvM (r := (RX1, TX1, 21)) hK hP hD hX 0 (aD_0 _ _ _ _ _ _ _) rfl) rfl rfl hl.1 rfl (lv_room (Nat.le_of_ble_eq_true rfl)) dX1_lists_134 ⟨Nat.le_of_ble_eq_true rfl, Nat.le_of_ble_eq_true rfl⟩) hD hS hA (fun v ws1 H locs hv hP hD hS => ?_)
                                        obtain ⟨gg, gh, nd, rfl, rfl, hadd⟩ := hv
                                        change (mnOk σ (ς 11) (ς 12) 4 s1 r1 y57_0 t1 ∧ gg = ug ge nc (40000 + 1000 * s1 + 100 * r1 + 10 * y57_0 + t1) ∧ gh = ug gf nc (mnV σ 4 s1 y57_0 t1) ∧ nd = nc + 1) ∨ (¬ mnOk σ (ς 11) (ς 12) 4 s1 r1 y57_0 t1 ∧ gg = ge ∧ gh = gf ∧ nd = nc) at hadd
                                        have hLd : LI (lgl σ (ς 11) (ς 12)) (mvV σ) gg gh nd ((40000 + 1000 * s1 + 100 * r1) + 10 * y57_0 + (t1 + 1)) := LI_mv hadd hLe (by omega) (by omega) (by omega) (by omega) (by omega) (by omega) (by omega) (by omega) (by omega) (by omega)
                                        have hnd : nc ≤ nd ∧ nd ≤ nc + 1 := by
                                          rcases hadd with ⟨q1, -, -, q2⟩ | ⟨-, -, -, q2⟩
                                          · omega
                                          · omega
                                        have hP : va_P G gcl (wD ad ty hv σ (up (up (up ς 0 gg) 1 gh) 2 (sc (nd))) (setk κc 4 (s1) (r1) (y57_0) (t1)) ++ cs) H := hP
                                        have hD : va_D A (wD ad ty hv σ (up (up (up ς 0 gg) 1 gh) 2 (sc (nd))) (setk κc 4 (s1) (r1) (y57_0) (t1)) ++ cs) := hD
                                        refine li_iinc (a := t1) (lv' := [(7, .int (ii (t1 + 1))), (6, .int (ii y57_0)), (5, .int (ii r1)), (4, .int (ii zl)), (3, .int (ii s1)), (2, .int (ii 4)), (0, .ref (ad 0)), (1, .ref (ad 48))]) hx hb dX1_lists_137 hl (k := 0) rfl (by decide) rfl (fun ls hl => ?_)
                                        refine lv_goto (tgt := 94) hx hb dX1_lists_140 (by decide) ?_
                                        exact ih (t1 + 1) (setk κc 4 (s1) (r1) (y57_0) (t1)) gg gh nd (by omega) (by omega) (by omega) (by omega) (.inl ⟨hb0, hb4, hLd⟩) (by omega) H locs hP hD hS ls (lv_sub hl [0, 1, 2, 3, 4, 5, 6, 7] rfl)
                                  · refine li_if_eq (tgt := 143) hx hb ⟨by decide, by decide⟩ dX1_lists_101 (by decide) (fun c101 => ?_) (fun c101 => ?_)
                                    · exact X94 t1 κc ge gf nc (by omega) (by omega) (by rcases hLc with ⟨q1, q2, q3⟩ | ⟨q1, q2, q3⟩; exact LI_skip q3 (by omega) (by omega) (fun x a c h => by have h1 := hfrom x h (by omega) (by omega); have h2 := lgl_to h; omega); exact LI_skip q3 (by omega) (by omega) (fun x a c h => by have h1 := hfrom x h (by omega) (by omega); have := lgl_fr h; omega)) H locs hP hD hS ls (lv_sub hl [2, 3, 4, 5, 6, 7] rfl)
                                    · exact absurd c101 (by decide)
                              exact L94 _ 0 κb gc gd nb (by omega) (by omega) (by omega) (by omega) (by rcases Classical.em (0 ≤ y57_0 ∧ y57_0 ≤ 4) with e | e; exact .inl ⟨e.1, e.2, LI_skip hLb (by omega) (by omega) (fun x a c h => by have := hfrom x h (by omega) (by omega); omega)⟩; exact .inr ⟨e, rfl, hLb⟩) (Nat.lt_succ_self _) H locs hP hD hS ls (lv_sub hl [0, 1, 2, 3, 4, 5, 6, 7] rfl)
                            refine li_if_ne (tgt := 87) hx hb ⟨by omega, by omega⟩ dX1_lists_57 (by decide) (fun c57 => ?_) (fun c57 => ?_)
                            · refine lv_iload hx hb dX1_lists_87 (lv_at hl 1 rfl) ?_
                              exact J57 _ (⟨by unfold beg; omega, by omega, by omega⟩) H locs hP hD hS ls (lv_sub hl [0, 1, 2, 3, 4, 5] rfl)
                            · refine lv_iload hx hb dX1_lists_60 (lv_at hl 0 rfl) ?_
                              refine lv_aload_n hx hb dX1_lists_62 rfl (lv_at hl 4 rfl) ?_
                              refine va_get (D := G) (ci := 0) (v := .ref (ad 1)) (C := RX1) (T := TX1) (N := 21) hx hb hts in_X1 hown hK hP 0 (aD_0 _ _ _ _ _ _ _) rfl 0 (by decide) (hts _ q977) (fun _ h9 => h9) rfl dX1_lists_63 ?_
                              refine va_get (D := G) (ci := 1) (v := .int (ii (σ 10 0))) (C := RX2) (T := TX2) (N := 13) hx hb hts in_X2 hown hK hP 1 (aD_1 _ _ _ _ _ _ _) rfl 8 (by decide) (hts _ q801) (fun _ h9 => h9) rfl dX1_lists_66 ?_
                              refine li_icmp_ge (tgt := 82) hx hb ⟨by omega, by omega⟩ (rgi h10a h10b) dX1_lists_69 (by decide) (fun c69 => ?_) (fun c69 => ?_)
                              · refine li_bipush hx hb dX1_lists_82 (by decide) ?_
                                refine lv_goto (tgt := 89) hx hb dX1_lists_84 (by decide) ?_
                                exact J57 _ (⟨by unfold beg; omega, by omega, by omega⟩) H locs hP hD hS ls (lv_sub hl [0, 1, 2, 3, 4, 5] rfl)
                              · refine lv_aload_n hx hb dX1_lists_72 rfl (lv_at hl 5 rfl) ?_
                                refine va_get (D := G) (ci := 2) (v := .ref (ad 50)) (C := RX3) (T := TX3) (N := 2) hx hb hts in_X3 hown hK hP 48 (aD_48 _ _ _ _ _ _ _) rfl 1 (by decide) (hts _ q664) (fun _ h9 => h9) rfl dX1_lists_73 ?_
                                refine lv_iload hx hb dX1_lists_76 (lv_at hl 0 rfl) ?_
                                refine li_iald (g := (ς 12)) hx hb hK hP 50 0 (aD_50 _ _ _ _ _ _ _) rfl (by omega) (by omega) (by decide) dX1_lists_78 ?_
                                have r79 := hs1 r1
                                refine lv_goto (tgt := 89) hx hb dX1_lists_79 (by decide) ?_
                                exact J57 _ (⟨by unfold beg; omega, by omega, by omega⟩) H locs hP hD hS ls (lv_sub hl [0, 1, 2, 3, 4, 5] rfl)
                          · refine lv_iload hx hb dX1_lists_51 (lv_at hl 0 rfl) ?_
                            refine li_if_ne (tgt := 149) hx hb ⟨by omega, by omega⟩ dX1_lists_53 (by decide) (fun c53 => ?_) (fun c53 => ?_)
                            · exact X39 r1 κb gc gd nb (by omega) (by omega) (LI_skip hLb (by omega) (by omega) (fun x a c => lgl_rope_a h10a h10b (by omega) (by omega) (by omega) (by omega) (by omega))) H locs hP hD hS ls (lv_sub hl [2, 3, 4, 5] rfl)
                            · refine lv_iload_n hx hb dX1_lists_56 rfl (lv_at hl 2 rfl) ?_
                              have J57 : ∀ (y57_0 : Int) (_ : beg σ (ς 12) zl s1 r1 y57_0 ∧ -4 ≤ y57_0 ∧ y57_0 ≤ 5) (H : Heap) (locs : List Loc) (_ : va_P G gcl (wD ad ty hv σ (up (up (up ς 0 gc) 1 gd) 2 (sc (nb))) κb ++ cs) H) (_ : va_D A (wD ad ty hv σ (up (up (up ς 0 gc) 1 gd) 2 (sc (nb))) κb ++ cs)) (_ : va_S A s.heap H locs) (ls : Array Slot), lv_has ls 8 [(5, .int (ii r1)), (4, .int (ii zl)), (3, .int (ii s1)), (2, .int (ii 4)), (0, .ref (ad 0)), (1, .ref (ad 48))] → W p l e (rm4 4 0 0 93) s m args below meth c H locs 0 0 Q (F0 m 89 ls [.int (ii y57_0)]) := by
                                intro y57_0 hj57 H locs hP hD hS ls hl
                                refine lv_istore (lv' := [(6, .int (ii y57_0)), (5, .int (ii r1)), (4, .int (ii zl)), (3, .int (ii s1)), (2, .int (ii 4)), (0, .ref (ad 0)), (1, .ref (ad 48))]) hx hb dX1_lists_89 hl (by decide) rfl (fun ls hl => ?_)
                                have hfrom : ∀ x, lgl σ (ς 11) (ς 12) x → (40000 + 1000 * s1 + 100 * r1) ≤ x → x < (40000 + 1000 * s1 + 100 * r1) + 100 → x / 10 % 10 = y57_0 := fun x h a c => lgl_from h (k := 4) (s := s1) (r := r1) (by omega) (by omega) (by omega) hzl2 hj57.1
                                refine li_iconst hx hb dX1_lists_91 ?_
                                refine lv_istore (lv' := [(7, .int (ii 0)), (6, .int (ii y57_0)), (5, .int (ii r1)), (4, .int (ii zl)), (3, .int (ii s1)), (2, .int (ii 4)), (0, .ref (ad 0)), (1, .ref (ad 48))]) hx hb dX1_lists_92 hl (by decide) rfl (fun ls hl => ?_)
                                have X94 : ∀ (t1 : Int) (κc : mem) (ge : Int → Int) (gf : Int → Int) (nc : Int) (_ : 0 ≤ nc) (_ : nc ≤ 200 + 10 * s1 + 5 * (r1 + 1)) (_ : LI (lgl σ (ς 11) (ς 12)) (mvV σ) ge gf nc ((40000 + 1000 * s1 + 100 * r1) + 100)) (H : Heap) (locs : List Loc) (_ : va_P G gcl (wD ad ty hv σ (up (up (up ς 0 ge) 1 gf) 2 (sc (nc))) κc ++ cs) H) (_ : va_D A (wD ad ty hv σ (up (up (up ς 0 ge) 1 gf) 2 (sc (nc))) κc ++ cs)) (_ : va_S A s.heap H locs) (ls : Array Slot), lv_has ls 8 [(5, .int (ii r1)), (4, .int (ii zl)), (3, .int (ii s1)), (2, .int (ii 4)), (0, .ref (ad 0)), (1, .ref (ad 48))] → W p l e (rm4 4 0 0 93) s m args below meth c H locs 0 0 Q (F0 m 143 ls []) := by
                                  intro t1 κc ge gf nc hnc hBc hLz H locs hP hD hS ls hl
                                  refine li_iinc (a := r1) (lv' := [(5, .int (ii (r1 + 1))), (4, .int (ii zl)), (3, .int (ii s1)), (2, .int (ii 4)), (0, .ref (ad 0)), (1, .ref (ad 48))]) hx hb dX1_lists_143 hl (k := 0) rfl (by decide) rfl (fun ls hl => ?_)
                                  refine lv_goto (tgt := 39) hx hb dX1_lists_146 (by decide) ?_
                                  exact ih (r1 + 1) κc ge gf nc (by omega) (by omega) (by omega) (hBc) (by rw [show (40000 + 1000 * s1 + 100 * (r1 + 1)) = 40000 + 1000 * s1 + 100 * r1 + 100 by omega]; exact hLz) (by omega) H locs hP hD hS ls (lv_sub hl [0, 1, 2, 3, 4, 5] rfl)
                                have L94 : ∀ (n : Nat) (t1 : Int) (κc : mem) (ge : Int → Int) (gf : Int → Int) (nc : Int) (_ : 0 ≤ t1) (_ : t1 ≤ σ 8 0) (_ : 0 ≤ nc) (_ : nc ≤ 200 + 10 * s1 + 5 * r1 + t1) (_ : LQ (lgl σ (ς 11) (ς 12)) (mvV σ) ge gf nc ((40000 + 1000 * s1 + 100 * r1) + 10 * y57_0 + t1) (40000 + 1000 * s1 + 100 * r1) t1 y57_0) (_ : (5 - t1).toNat < n) (H : Heap) (locs : List Loc) (_ : va_P G gcl (wD ad ty hv σ (up (up (up ς 0 ge) 1 gf) 2 (sc (nc))) κc ++ cs) H) (_ : va_D A (wD ad ty hv σ (up (up (up ς 0 ge) 1 gf) 2 (sc (nc))) κc ++ cs)) (_ : va_S A s.heap H locs) (ls : Array Slot), lv_has ls 8 [(7, .int (ii t1)), (6, .int (ii y57_0)), (5, .int (ii r1)), (4, .int (ii zl)), (3, .int (ii s1)), (2, .int (ii 4)), (0, .ref (ad 0)), (1, .ref (ad 48))] → W p l e (rm4 4 0 0 93) s m args below meth c H locs 0 0 Q (F0 m 94 ls []) := by
                                  intro n
                                  induction n with
                                  | zero =>
                                    intro t1 κc ge gf nc ht1a ht1b hnc hBc hLc hm
                                    exact absurd hm (Nat.not_lt_zero _)
                                  | succ n ih =>
                                    intro t1 κc ge gf nc ht1a ht1b hnc hBc hLc hm H locs hP hD hS ls hl
                                    refine lv_iload hx hb dX1_lists_94 (lv_at hl 1 rfl) ?_
                                    refine li_iconst hx hb dX1_lists_96 ?_
                                    refine li_iconst hx hb dX1_lists_97 ?_
                                    refine kR (va_runS (As := [.int (ii y57_0), .int (ii 0), .int (ii 4)]) (rest := []) ⟨hx, hb, hml, hown, hts⟩ (m_isIn l G ty (wD ad ty hv σ (up (up (up ς 0 ge) 1 gf) 2 (sc (nc))) κc ++ cs) y57_0 0 4 ⟨by omega, by omega⟩ ⟨by decide, by decide⟩ ⟨by decide, by decide⟩) (va_cwS 3 hts (lw_S q117 q118 q76 q119) rfl rfl rfl (by decide +kernel) ⟨Nat.le_of_ble_eq_true rfl, Nat.le_of_ble_eq_true rfl⟩) (psR hK hP hD hX) rfl rfl hl.1 rfl (lv_room (Nat.le_of_ble_eq_true rfl)) dX1_lists_98 ⟨Nat.le_of_ble_eq_true rfl, Nat.le_of_ble_eq_true rfl⟩) (fun v hv => ?_)
                                    obtain ⟨z98, rfl, ⟨rfl, h98⟩ | ⟨rfl, h98⟩⟩ := hv
                                    · refine li_if_eq (tgt := 143) hx hb ⟨by decide, by decide⟩ dX1_lists_101 (by decide) (fun c101 => ?_) (fun c101 => ?_)
                                      · exact absurd c101 (by decide)
                                      · refine lv_iload hx hb dX1_lists_104 (lv_at hl 0 rfl) ?_
                                        refine lv_aload_n hx hb dX1_lists_106 rfl (lv_at hl 6 rfl) ?_
                                        refine va_get (D := G) (ci := 0) (v := .ref (ad 1)) (C := RX1) (T := TX1) (N := 21) hx hb hts in_X1 hown hK hP 0 (aD_0 _ _ _ _ _ _ _) rfl 0 (by decide) (hts _ q977) (fun _ h9 => h9) rfl dX1_lists_107 ?_
                                        refine va_get (D := G) (ci := 1) (v := .int (ii (σ 8 0))) (C := RX2) (T := TX2) (N := 13) hx hb hts in_X2 hown hK hP 1 (aD_1 _ _ _ _ _ _ _) rfl 4 (by decide) (hts _ q785) (fun _ h9 => h9) rfl dX1_lists_110 ?_
                                        refine li_icmp_ge (tgt := 143) hx hb ⟨by omega, by omega⟩ (rgi h8a h8b) dX1_lists_113 (by decide) (fun c113 => ?_) (fun c113 => ?_)
                                        · exact X94 t1 κc ge gf nc (by omega) (by omega) (by rcases hLc with ⟨q1, q2, q3⟩ | ⟨q1, q2, q3⟩; exact LI_skip q3 (by omega) (by omega) (fun x a c h => by have h1 := hfrom x h (by omega) (by omega); have h2 := lgl_to h; omega); exact LI_skip q3 (by omega) (by omega) (fun x a c h => by have h1 := hfrom x h (by omega) (by omega); have := lgl_fr h; omega)) H locs hP hD hS ls (lv_sub hl [2, 3, 4, 5, 6, 7] rfl)
                                        · have hb0 : 0 ≤ y57_0 := h98.1
                                          have hb4 : y57_0 ≤ 4 := h98.2
                                          have hLe := LI_in hLc ⟨hb0, hb4⟩
                                          refine lv_aload_n hx hb dX1_lists_116 rfl (lv_at hl 6 rfl) ?_
                                          refine lv_aload_n hx hb dX1_lists_117 rfl (lv_at hl 6 rfl) ?_
                                          refine va_get (D := G) (ci := 0) (v := .ref (ad 31)) (C := RX1) (T := TX1) (N := 21) hx hb hts in_X1 hown hK hP 0 (aD_0 _ _ _ _ _ _ _) rfl 4 (by decide) (hts _ q981) (fun _ h9 => h9) rfl dX1_lists_118 ?_
                                          refine lv_iload_n hx hb dX1_lists_121 rfl (lv_at hl 5 rfl) ?_
                                          refine li_aald (q := ad 36) hx hb hK hP 31 5 (aD_31 _ _ _ _ _ _ _) rfl (by decide) (by decide) (by decide) (rfl) dX1_lists_122 ?_
                                          refine lv_iload_n hx hb dX1_lists_123 rfl (lv_at hl 4 rfl) ?_
                                          refine lv_iload hx hb dX1_lists_124 (lv_at hl 2 rfl) ?_
                                          refine lv_iload hx hb dX1_lists_126 (lv_at hl 1 rfl) ?_
                                          refine lv_iload hx hb dX1_lists_128 (lv_at hl 0 rfl) ?_
                                          refine v_tells (mi := 36) (md := ad 36) (a1 := s1) (a2 := r1) (a3 := y57_0) (a4 := t1) hx hb hml hown hts hK hP hD hX 4 (by decide) hS hA (aDk ad ty hv σ _ κc cs (by decide)) (Nat.le_of_ble_eq_true rfl) (Nat.le_of_ble_eq_true rfl) hl.1 (Nat.le_of_ble_eq_true rfl) ⟨Nat.le_of_ble_eq_true rfl, Nat.le_of_ble_eq_true rfl⟩ dX1_lists_130 (fun H locs hP hD hS => ?_)
                                          rw [aDk_set ad ty hv σ _ κc cs (show 4 < 7 by decide)] at hP hD
                                          refine lv_aload_n hx hb dX1_lists_133 rfl (lv_at hl 7 rfl) ?_
                                          refine kM (va_runV (As := [.ref (ad 36), .ref (ad 48)]) (rest := []) ⟨hx, hb, hml, hown, hts⟩ (m_tries_4T l G ad ty hv σ (up (up (up ς 0 ge) 1 gf) 2 (sc (nc))) (setk κc 4 (s1) (r1) (y57_0) (t1)) cs hW hWT hlgT ⟨hs1a, by show s1 ≤ 7; omega, hr1a, by show r1 ≤ 1; omega, hb0, hb4, ht1a, by show t1 ≤ 4; omega⟩ ⟨hnc, by show nc < 400; omega⟩ H.size) (cwV 2 hts (lw_V q553 q555 qs21 q76 q556) rfl rfl rfl (by decide +kernel) ⟨Nat.le_of_ble_eq_true rfl, Nat.le_of_ble_eq_true rfl⟩) (pvM (r := (RX1, TX1, 21)) hK hP hD hX 0 (aD_0 _ _ _ _ _ _ _) rfl) rfl rfl hl.1 rfl (lv_room (Nat.le_of_ble_eq_true rfl)) dX1_lists_134 ⟨Nat.le_of_ble_eq_true rfl, Nat.le_of_ble_eq_true rfl⟩) hD hS hA (fun v ws1 H locs hv hP hD hS => ?_)
                                          obtain ⟨gg, gh, nd, rfl, rfl, hadd⟩ := hv
                                          change (mnOk σ (ς 11) (ς 12) 4 s1 r1 y57_0 t1 ∧ gg = ug ge nc (40000 + 1000 * s1 + 100 * r1 + 10 * y57_0 + t1) ∧ gh = ug gf nc (mnV σ 4 s1 y57_0 t1) ∧ nd = nc + 1) ∨ (¬ mnOk σ (ς 11) (ς 12) 4 s1 r1 y57_0 t1 ∧ gg = ge ∧ gh = gf ∧ nd = nc) at hadd
                                          have hLd : LI (lgl σ (ς 11) (ς 12)) (mvV σ) gg gh nd ((40000 + 1000 * s1 + 100 * r1) + 10 * y57_0 + (t1 + 1)) := LI_mv hadd hLe (by omega) (by omega) (by omega) (by omega) (by omega) (by omega) (by omega) (by omega) (by omega) (by omega)
                                          have hnd : nc ≤ nd ∧ nd ≤ nc + 1 := by
                                            rcases hadd with ⟨q1, -, -, q2⟩ | ⟨-, -, -, q2⟩
                                            · omega
                                            · omega
                                          have hP : va_P G gcl (wD ad ty hv σ (up (up (up ς 0 gg) 1 gh) 2 (sc (nd))) (setk κc 4 (s1) (r1) (y57_0) (t1)) ++ cs) H := hP
                                          have hD : va_D A (wD ad ty hv σ (up (up (up ς 0 gg) 1 gh) 2 (sc (nd))) (setk κc 4 (s1) (r1) (y57_0) (t1)) ++ cs) := hD
                                          refine li_iinc (a := t1) (lv' := [(7, .int (ii (t1 + 1))), (6, .int (ii y57_0)), (5, .int (ii r1)), (4, .int (ii zl)), (3, .int (ii s1)), (2, .int (ii 4)), (0, .ref (ad 0)), (1, .ref (ad 48))]) hx hb dX1_lists_137 hl (k := 0) rfl (by decide) rfl (fun ls hl => ?_)
                                          refine lv_goto (tgt := 94) hx hb dX1_lists_140 (by decide) ?_
                                          exact ih (t1 + 1) (setk κc 4 (s1) (r1) (y57_0) (t1)) gg gh nd (by omega) (by omega) (by omega) (by omega) (.inl ⟨hb0, hb4, hLd⟩) (by omega) H locs hP hD hS ls (lv_sub hl [0, 1, 2, 3, 4, 5, 6, 7] rfl)
                                    · refine li_if_eq (tgt := 143) hx hb ⟨by decide, by decide⟩ dX1_lists_101 (by decide) (fun c101 => ?_) (fun c101 => ?_)
                                      · exact X94 t1 κc ge gf nc (by omega) (by omega) (by rcases hLc with ⟨q1, q2, q3⟩ | ⟨q1, q2, q3⟩; exact LI_skip q3 (by omega) (by omega) (fun x a c h => by have h1 := hfrom x h (by omega) (by omega); have h2 := lgl_to h; omega); exact LI_skip q3 (by omega) (by omega) (fun x a c h => by have h1 := hfrom x h (by omega) (by omega); have := lgl_fr h; omega)) H locs hP hD hS ls (lv_sub hl [2, 3, 4, 5, 6, 7] rfl)
                                      · exact absurd c101 (by decide)
                                exact L94 _ 0 κb gc gd nb (by omega) (by omega) (by omega) (by omega) (by rcases Classical.em (0 ≤ y57_0 ∧ y57_0 ≤ 4) with e | e; exact .inl ⟨e.1, e.2, LI_skip hLb (by omega) (by omega) (fun x a c h => by have := hfrom x h (by omega) (by omega); omega)⟩; exact .inr ⟨e, rfl, hLb⟩) (Nat.lt_succ_self _) H locs hP hD hS ls (lv_sub hl [0, 1, 2, 3, 4, 5, 6, 7] rfl)
                              refine li_if_ne (tgt := 87) hx hb ⟨by omega, by omega⟩ dX1_lists_57 (by decide) (fun c57 => ?_) (fun c57 => ?_)
                              · refine lv_iload hx hb dX1_lists_87 (lv_at hl 1 rfl) ?_
                                exact J57 _ (⟨by unfold beg; omega, by omega, by omega⟩) H locs hP hD hS ls (lv_sub hl [0, 1, 2, 3, 4, 5] rfl)
                              · refine lv_iload hx hb dX1_lists_60 (lv_at hl 0 rfl) ?_
                                refine lv_aload_n hx hb dX1_lists_62 rfl (lv_at hl 4 rfl) ?_
                                refine va_get (D := G) (ci := 0) (v := .ref (ad 1)) (C := RX1) (T := TX1) (N := 21) hx hb hts in_X1 hown hK hP 0 (aD_0 _ _ _ _ _ _ _) rfl 0 (by decide) (hts _ q977) (fun _ h9 => h9) rfl dX1_lists_63 ?_
                                refine va_get (D := G) (ci := 1) (v := .int (ii (σ 10 0))) (C := RX2) (T := TX2) (N := 13) hx hb hts in_X2 hown hK hP 1 (aD_1 _ _ _ _ _ _ _) rfl 8 (by decide) (hts _ q801) (fun _ h9 => h9) rfl dX1_lists_66 ?_
                                refine li_icmp_ge (tgt := 82) hx hb ⟨by omega, by omega⟩ (rgi h10a h10b) dX1_lists_69 (by decide) (fun c69 => ?_) (fun c69 => ?_)
                                · refine li_bipush hx hb dX1_lists_82 (by decide) ?_
                                  refine lv_goto (tgt := 89) hx hb dX1_lists_84 (by decide) ?_
                                  exact J57 _ (⟨by unfold beg; omega, by omega, by omega⟩) H locs hP hD hS ls (lv_sub hl [0, 1, 2, 3, 4, 5] rfl)
                                · refine lv_aload_n hx hb dX1_lists_72 rfl (lv_at hl 5 rfl) ?_
                                  refine va_get (D := G) (ci := 2) (v := .ref (ad 50)) (C := RX3) (T := TX3) (N := 2) hx hb hts in_X3 hown hK hP 48 (aD_48 _ _ _ _ _ _ _) rfl 1 (by decide) (hts _ q664) (fun _ h9 => h9) rfl dX1_lists_73 ?_
                                  refine lv_iload hx hb dX1_lists_76 (lv_at hl 0 rfl) ?_
                                  refine li_iald (g := (ς 12)) hx hb hK hP 50 0 (aD_50 _ _ _ _ _ _ _) rfl (by omega) (by omega) (by decide) dX1_lists_78 ?_
                                  have r79 := hs1 r1
                                  refine lv_goto (tgt := 89) hx hb dX1_lists_79 (by decide) ?_
                                  exact J57 _ (⟨by unfold beg; omega, by omega, by omega⟩) H locs hP hD hS ls (lv_sub hl [0, 1, 2, 3, 4, 5] rfl)
                      exact L39 _ 0 κa ga gb na (by omega) (by omega) (by omega) (by omega) (by rw [show (40000 + 1000 * s1 + 100 * (0 : Int)) = 40000 + 1000 * s1 by omega]; exact hLa) (Nat.lt_succ_self _) H locs hP hD hS ls (lv_sub hl [0, 1, 2, 3, 4, 5] rfl)
                exact L15 _ 0 κa ga gb na (by omega) (by omega) (by omega) (by omega) (by omega) (by first | exact LI_skip (LI_0 _ _ _ _) (by decide) (by decide) (fun x a c => lgl_0 (by omega)) | (rw [show (40000 + 1000 * (0 : Int)) = 40000 by rfl]; exact hLx)) (Nat.lt_succ_self _) H locs hP hD hS ls (lv_sub hl [0, 1, 2, 3] rfl)
            have L15 : ∀ (n : Nat) (s1 : Int) (κa : mem) (ga : Int → Int) (gb : Int → Int) (na : Int) (_ : 0 ≤ s1) (_ : s1 ≤ p2 (σ 9 0)) (_ : s1 ≤ 8) (_ : 0 ≤ na) (_ : na ≤ 160 + 5 * s1) (_ : LI (lgl σ (ς 11) (ς 12)) (mvV σ) ga gb na (30000 + 1000 * s1)) (_ : (8 - s1).toNat < n) (H : Heap) (locs : List Loc) (_ : va_P G gcl (wD ad ty hv σ (up (up (up ς 0 ga) 1 gb) 2 (sc (na))) κa ++ cs) H) (_ : va_D A (wD ad ty hv σ (up (up (up ς 0 ga) 1 gb) 2 (sc (na))) κa ++ cs)) (_ : va_S A s.heap H locs) (ls : Array Slot), lv_has ls 8 [(3, .int (ii s1)), (2, .int (ii 3)), (0, .ref (ad 0)), (1, .ref (ad 48))] → W p l e (rm4 4 0 0 93) s m args below meth c H locs 0 0 Q (F0 m 15 ls []) := by
              intro n
              induction n with
              | zero =>
                intro s1 κa ga gb na hs1a hs1b hs7 hna hBa hLa hm
                exact absurd hm (Nat.not_lt_zero _)
              | succ n ih =>
                intro s1 κa ga gb na hs1a hs1b hs7 hna hBa hLa hm H locs hP hD hS ls hl
                refine lv_iload_n hx hb dX1_lists_15 rfl (lv_at hl 0 rfl) ?_
                refine li_iconst hx hb dX1_lists_16 ?_
                refine lv_aload_n hx hb dX1_lists_17 rfl (lv_at hl 2 rfl) ?_
                refine va_get (D := G) (ci := 0) (v := .ref (ad 1)) (C := RX1) (T := TX1) (N := 21) hx hb hts in_X1 hown hK hP 0 (aD_0 _ _ _ _ _ _ _) rfl 0 (by decide) (hts _ q977) (fun _ h9 => h9) rfl dX1_lists_18 ?_
                refine va_get (D := G) (ci := 1) (v := .int (ii (σ 9 0))) (C := RX2) (T := TX2) (N := 13) hx hb hts in_X2 hown hK hP 1 (aD_1 _ _ _ _ _ _ _) rfl 6 (by decide) (hts _ q790) (fun _ h9 => h9) rfl dX1_lists_21 ?_
                refine lv_ishl hx hb dX1_lists_24 ?_
                refine li_topx (z := p2 (σ 9 0)) (ii_shl1 h9a h9b) ?_
                refine li_icmp_ge (tgt := 155) hx hb ⟨by omega, by omega⟩ ⟨by omega, by omega⟩ dX1_lists_25 (by decide) (fun c25 => ?_) (fun c25 => ?_)
                · exact X15 s1 κa ga gb na (by omega) (by omega) (LI_skip hLa (by omega) (by omega) (fun x a c => lgl_set h9a h9b (by omega) (by omega))) H locs hP hD hS ls (lv_sub hl [1, 2, 3] rfl)
                · refine lv_aload_n hx hb dX1_lists_28 rfl (lv_at hl 2 rfl) ?_
                  refine lv_iload_n hx hb dX1_lists_29 rfl (lv_at hl 0 rfl) ?_
                  refine lv_aload_n hx hb dX1_lists_30 rfl (lv_at hl 3 rfl) ?_
                  refine kR (va_runV (As := [.int (ii s1), .ref (ad 48)]) (rest := []) ⟨hx, hb, hml, hown, hts⟩ (m_ledgeOfT l G ad ty hv σ (up (up (up ς 0 ga) 1 gb) 2 (sc (na))) κa cs s1 hW hWT ⟨by omega, by omega⟩) (cwV 2 hts (lw_V q549 q551 qs20 q76 q552) rfl rfl rfl (by decide +kernel) ⟨Nat.le_of_ble_eq_true rfl, Nat.le_of_ble_eq_true rfl⟩) (pvR (r := (RX1, TX1, 21)) hK hP hD hX 0 (aD_0 _ _ _ _ _ _ _) rfl) rfl rfl hl.1 rfl (lv_room (Nat.le_of_ble_eq_true rfl)) dX1_lists_31 ⟨Nat.le_of_ble_eq_true rfl, Nat.le_of_ble_eq_true rfl⟩) (fun v hv => ?_)
                  obtain ⟨zl, rfl, hzl, hzl2⟩ := hv
                  replace hzl : -4 ≤ zl ∧ zl ≤ 4 := by omega
                  refine lv_istore (lv' := [(4, .int (ii zl)), (3, .int (ii s1)), (2, .int (ii 3)), (0, .ref (ad 0)), (1, .ref (ad 48))]) hx hb dX1_lists_34 hl (by decide) rfl (fun ls hl => ?_)
                  refine li_iconst hx hb dX1_lists_36 ?_
                  refine lv_istore (lv' := [(5, .int (ii 0)), (4, .int (ii zl)), (3, .int (ii s1)), (2, .int (ii 3)), (0, .ref (ad 0)), (1, .ref (ad 48))]) hx hb dX1_lists_37 hl (by decide) rfl (fun ls hl => ?_)
                  have X39 : ∀ (r1 : Int) (κb : mem) (gc : Int → Int) (gd : Int → Int) (nb : Int) (_ : 0 ≤ nb) (_ : nb ≤ 160 + 5 * (s1 + 1)) (_ : LI (lgl σ (ς 11) (ς 12)) (mvV σ) gc gd nb (30000 + 1000 * s1 + 1000)) (H : Heap) (locs : List Loc) (_ : va_P G gcl (wD ad ty hv σ (up (up (up ς 0 gc) 1 gd) 2 (sc (nb))) κb ++ cs) H) (_ : va_D A (wD ad ty hv σ (up (up (up ς 0 gc) 1 gd) 2 (sc (nb))) κb ++ cs)) (_ : va_S A s.heap H locs) (ls : Array Slot), lv_has ls 8 [(3, .int (ii s1)), (2, .int (ii 3)), (0, .ref (ad 0)), (1, .ref (ad 48))] → W p l e (rm4 4 0 0 93) s m args below meth c H locs 0 0 Q (F0 m 149 ls []) := by
                    intro r1 κb gc gd nb hnb hBb hLy H locs hP hD hS ls hl
                    refine li_iinc (a := s1) (lv' := [(3, .int (ii (s1 + 1))), (2, .int (ii 3)), (0, .ref (ad 0)), (1, .ref (ad 48))]) hx hb dX1_lists_149 hl (k := 0) rfl (by decide) rfl (fun ls hl => ?_)
                    refine lv_goto (tgt := 15) hx hb dX1_lists_152 (by decide) ?_
                    exact ih (s1 + 1) κb gc gd nb (by omega) (by omega) (by omega) (by omega) (hBb) (by rw [show (30000 + 1000 * (s1 + 1)) = 30000 + 1000 * s1 + 1000 by omega]; exact hLy) (by omega) H locs hP hD hS ls (lv_sub hl [0, 1, 2, 3] rfl)
                  have L39 : ∀ (n : Nat) (r1 : Int) (κb : mem) (gc : Int → Int) (gd : Int → Int) (nb : Int) (_ : 0 ≤ r1) (_ : r1 ≤ 2) (_ : 0 ≤ nb) (_ : nb ≤ 160 + 5 * s1 + ib r1 0 5) (_ : LI (lgl σ (ς 11) (ς 12)) (mvV σ) gc gd nb (30000 + 1000 * s1 + 100 * r1)) (_ : (2 - r1).toNat < n) (H : Heap) (locs : List Loc) (_ : va_P G gcl (wD ad ty hv σ (up (up (up ς 0 gc) 1 gd) 2 (sc (nb))) κb ++ cs) H) (_ : va_D A (wD ad ty hv σ (up (up (up ς 0 gc) 1 gd) 2 (sc (nb))) κb ++ cs)) (_ : va_S A s.heap H locs) (ls : Array Slot), lv_has ls 8 [(5, .int (ii r1)), (4, .int (ii zl)), (3, .int (ii s1)), (2, .int (ii 3)), (0, .ref (ad 0)), (1, .ref (ad 48))] → W p l e (rm4 4 0 0 93) s m args below meth c H locs 0 0 Q (F0 m 39 ls []) := by
                    intro n
                    induction n with
                    | zero =>
                      intro r1 κb gc gd nb hr1a hr1b hnb hBb hLb hm
                      exact absurd hm (Nat.not_lt_zero _)
                    | succ n ih =>
                      intro r1 κb gc gd nb hr1a hr1b hnb hBb hLb hm H locs hP hD hS ls hl
                      refine lv_iload hx hb dX1_lists_39 (lv_at hl 0 rfl) ?_
                      refine lv_aload_n hx hb dX1_lists_41 rfl (lv_at hl 4 rfl) ?_
                      refine va_get (D := G) (ci := 0) (v := .ref (ad 1)) (C := RX1) (T := TX1) (N := 21) hx hb hts in_X1 hown hK hP 0 (aD_0 _ _ _ _ _ _ _) rfl 0 (by decide) (hts _ q977) (fun _ h9 => h9) rfl dX1_lists_42 ?_
                      refine va_get (D := G) (ci := 1) (v := .int (ii (σ 10 0))) (C := RX2) (T := TX2) (N := 13) hx hb hts in_X2 hown hK hP 1 (aD_1 _ _ _ _ _ _ _) rfl 8 (by decide) (hts _ q801) (fun _ h9 => h9) rfl dX1_lists_45 ?_
                      refine li_icmp_lt (tgt := 56) hx hb ⟨by omega, by omega⟩ (rgi h10a h10b) dX1_lists_48 (by decide) (fun c48 => ?_) (fun c48 => ?_)
                      · refine lv_iload_n hx hb dX1_lists_56 rfl (lv_at hl 2 rfl) ?_
                        have J57 : ∀ (y57_0 : Int) (_ : beg σ (ς 12) zl s1 r1 y57_0 ∧ -4 ≤ y57_0 ∧ y57_0 ≤ 5) (H : Heap) (locs : List Loc) (_ : va_P G gcl (wD ad ty hv σ (up (up (up ς 0 gc) 1 gd) 2 (sc (nb))) κb ++ cs) H) (_ : va_D A (wD ad ty hv σ (up (up (up ς 0 gc) 1 gd) 2 (sc (nb))) κb ++ cs)) (_ : va_S A s.heap H locs) (ls : Array Slot), lv_has ls 8 [(5, .int (ii r1)), (4, .int (ii zl)), (3, .int (ii s1)), (2, .int (ii 3)), (0, .ref (ad 0)), (1, .ref (ad 48))] → W p l e (rm4 4 0 0 93) s m args below meth c H locs 0 0 Q (F0 m 89 ls [.int (ii y57_0)]) := by
                          intro y57_0 hj57 H locs hP hD hS ls hl
                          refine lv_istore (lv' := [(6, .int (ii y57_0)), (5, .int (ii r1)), (4, .int (ii zl)), (3, .int (ii s1)), (2, .int (ii 3)), (0, .ref (ad 0)), (1, .ref (ad 48))]) hx hb dX1_lists_89 hl (by decide) rfl (fun ls hl => ?_)
                          have hfrom : ∀ x, lgl σ (ς 11) (ς 12) x → (30000 + 1000 * s1 + 100 * r1) ≤ x → x < (30000 + 1000 * s1 + 100 * r1) + 100 → x / 10 % 10 = y57_0 := fun x h a c => lgl_from h (k := 3) (s := s1) (r := r1) (by omega) (by omega) (by omega) hzl2 hj57.1
                          refine li_iconst hx hb dX1_lists_91 ?_
                          refine lv_istore (lv' := [(7, .int (ii 0)), (6, .int (ii y57_0)), (5, .int (ii r1)), (4, .int (ii zl)), (3, .int (ii s1)), (2, .int (ii 3)), (0, .ref (ad 0)), (1, .ref (ad 48))]) hx hb dX1_lists_92 hl (by decide) rfl (fun ls hl => ?_)
                          have X94 : ∀ (t1 : Int) (κc : mem) (ge : Int → Int) (gf : Int → Int) (nc : Int) (_ : 0 ≤ nc) (_ : nc ≤ 160 + 5 * s1 + ib (r1 + 1) 0 5) (_ : LI (lgl σ (ς 11) (ς 12)) (mvV σ) ge gf nc ((30000 + 1000 * s1 + 100 * r1) + 100)) (H : Heap) (locs : List Loc) (_ : va_P G gcl (wD ad ty hv σ (up (up (up ς 0 ge) 1 gf) 2 (sc (nc))) κc ++ cs) H) (_ : va_D A (wD ad ty hv σ (up (up (up ς 0 ge) 1 gf) 2 (sc (nc))) κc ++ cs)) (_ : va_S A s.heap H locs) (ls : Array Slot), lv_has ls 8 [(5, .int (ii r1)), (4, .int (ii zl)), (3, .int (ii s1)), (2, .int (ii 3)), (0, .ref (ad 0)), (1, .ref (ad 48))] → W p l e (rm4 4 0 0 93) s m args below meth c H locs 0 0 Q (F0 m 143 ls []) := by
                            intro t1 κc ge gf nc hnc hBc hLz H locs hP hD hS ls hl
                            refine li_iinc (a := r1) (lv' := [(5, .int (ii (r1 + 1))), (4, .int (ii zl)), (3, .int (ii s1)), (2, .int (ii 3)), (0, .ref (ad 0)), (1, .ref (ad 48))]) hx hb dX1_lists_143 hl (k := 0) rfl (by decide) rfl (fun ls hl => ?_)
                            refine lv_goto (tgt := 39) hx hb dX1_lists_146 (by decide) ?_
                            exact ih (r1 + 1) κc ge gf nc (by omega) (by omega) (by omega) (hBc) (by rw [show (30000 + 1000 * s1 + 100 * (r1 + 1)) = 30000 + 1000 * s1 + 100 * r1 + 100 by omega]; exact hLz) (by omega) H locs hP hD hS ls (lv_sub hl [0, 1, 2, 3, 4, 5] rfl)
                          have L94 : ∀ (n : Nat) (t1 : Int) (κc : mem) (ge : Int → Int) (gf : Int → Int) (nc : Int) (_ : 0 ≤ t1) (_ : t1 ≤ σ 8 0) (_ : 0 ≤ nc) (_ : nc ≤ 160 + 5 * s1 + ib r1 t1 5) (_ : LQ (lgl σ (ς 11) (ς 12)) (mvV σ) ge gf nc ((30000 + 1000 * s1 + 100 * r1) + 10 * y57_0 + t1) (30000 + 1000 * s1 + 100 * r1) t1 y57_0) (_ : (5 - t1).toNat < n) (H : Heap) (locs : List Loc) (_ : va_P G gcl (wD ad ty hv σ (up (up (up ς 0 ge) 1 gf) 2 (sc (nc))) κc ++ cs) H) (_ : va_D A (wD ad ty hv σ (up (up (up ς 0 ge) 1 gf) 2 (sc (nc))) κc ++ cs)) (_ : va_S A s.heap H locs) (ls : Array Slot), lv_has ls 8 [(7, .int (ii t1)), (6, .int (ii y57_0)), (5, .int (ii r1)), (4, .int (ii zl)), (3, .int (ii s1)), (2, .int (ii 3)), (0, .ref (ad 0)), (1, .ref (ad 48))] → W p l e (rm4 4 0 0 93) s m args below meth c H locs 0 0 Q (F0 m 94 ls []) := by
                            intro n
                            induction n with
                            | zero =>
                              intro t1 κc ge gf nc ht1a ht1b hnc hBc hLc hm
                              exact absurd hm (Nat.not_lt_zero _)
                            | succ n ih =>
                              intro t1 κc ge gf nc ht1a ht1b hnc hBc hLc hm H locs hP hD hS ls hl
                              refine lv_iload hx hb dX1_lists_94 (lv_at hl 1 rfl) ?_
                              refine li_iconst hx hb dX1_lists_96 ?_
                              refine li_iconst hx hb dX1_lists_97 ?_
                              refine kR (va_runS (As := [.int (ii y57_0), .int (ii 0), .int (ii 4)]) (rest := []) ⟨hx, hb, hml, hown, hts⟩ (m_isIn l G ty (wD ad ty hv σ (up (up (up ς 0 ge) 1 gf) 2 (sc (nc))) κc ++ cs) y57_0 0 4 ⟨by omega, by omega⟩ ⟨by decide, by decide⟩ ⟨by decide, by decide⟩) (va_cwS 3 hts (lw_S q117 q118 q76 q119) rfl rfl rfl (by decide +kernel) ⟨Nat.le_of_ble_eq_true rfl, Nat.le_of_ble_eq_true rfl⟩) (psR hK hP hD hX) rfl rfl hl.1 rfl (lv_room (Nat.le_of_ble_eq_true rfl)) dX1_lists_98 ⟨Nat.le_of_ble_eq_true rfl, Nat.le_of_ble_eq_true rfl⟩) (fun v hv => ?_)
                              obtain ⟨z98, rfl, ⟨rfl, h98⟩ | ⟨rfl, h98⟩⟩ := hv
                              · refine li_if_eq (tgt := 143) hx hb ⟨by decide, by decide⟩ dX1_lists_101 (by decide) (fun c101 => ?_) (fun c101 => ?_)
                                · exact absurd c101 (by decide)
                                · refine lv_iload hx hb dX1_lists_104 (lv_at hl 0 rfl) ?_
                                  refine lv_aload_n hx hb dX1_lists_106 rfl (lv_at hl 6 rfl) ?_
                                  refine va_get (D := G) (ci := 0) (v := .ref (ad 1)) (C := RX1) (T := TX1) (N := 21) hx hb hts in_X1 hown hK hP 0 (aD_0 _ _ _ _ _ _ _) rfl 0 (by decide) (hts _ q977) (fun _ h9 => h9) rfl dX1_lists_107 ?_
                                  refine va_get (D := G) (ci := 1) (v := .int (ii (σ 8 0))) (C := RX2) (T := TX2) (N := 13) hx hb hts in_X2 hown hK hP 1 (aD_1 _ _ _ _ _ _ _) rfl 4 (by decide) (hts _ q785) (fun _ h9 => h9) rfl dX1_lists_110 ?_
                                  refine li_icmp_ge (tgt := 143) hx hb ⟨by omega, by omega⟩ (rgi h8a h8b) dX1_lists_113 (by decide) (fun c113 => ?_) (fun c113 => ?_)
                                  · exact X94 t1 κc ge gf nc (by omega) (by have := ib_c r1 t1 5; have := ib_c (r1 + 1) 0 5; omega) (by rcases hLc with ⟨q1, q2, q3⟩ | ⟨q1, q2, q3⟩; exact LI_skip q3 (by omega) (by omega) (fun x a c h => by have h1 := hfrom x h (by omega) (by omega); have h2 := lgl_to h; omega); exact LI_skip q3 (by omega) (by omega) (fun x a c h => by have h1 := hfrom x h (by omega) (by omega); have := lgl_fr h; omega)) H locs hP hD hS ls (lv_sub hl [2, 3, 4, 5, 6, 7] rfl)
                                  · have hb0 : 0 ≤ y57_0 := h98.1
                                    have hb4 : y57_0 ≤ 4 := h98.2
                                    have hLe := LI_in hLc ⟨hb0, hb4⟩
                                    refine lv_aload_n hx hb dX1_lists_116 rfl (lv_at hl 6 rfl) ?_
                                    refine lv_aload_n hx hb dX1_lists_117 rfl (lv_at hl 6 rfl) ?_
                                    refine va_get (D := G) (ci := 0) (v := .ref (ad 31)) (C := RX1) (T := TX1) (N := 21) hx hb hts in_X1 hown hK hP 0 (aD_0 _ _ _ _ _ _ _) rfl 4 (by decide) (hts _ q981) (fun _ h9 => h9) rfl dX1_lists_118 ?_
                                    refine lv_iload_n hx hb dX1_lists_121 rfl (lv_at hl 5 rfl) ?_
                                    refine li_aald (q := ad 35) hx hb hK hP 31 5 (aD_31 _ _ _ _ _ _ _) rfl (by decide) (by decide) (by decide) (rfl) dX1_lists_122 ?_
                                    refine lv_iload_n hx hb dX1_lists_123 rfl (lv_at hl 4 rfl) ?_
                                    refine lv_iload hx hb dX1_lists_124 (lv_at hl 2 rfl) ?_
                                    refine lv_iload hx hb dX1_lists_126 (lv_at hl 1 rfl) ?_
                                    refine lv_iload hx hb dX1_lists_128 (lv_at hl 0 rfl) ?_
                                    refine v_tells (mi := 35) (md := ad 35) (a1 := s1) (a2 := r1) (a3 := y57_0) (a4 := t1) hx hb hml hown hts hK hP hD hX 3 (by decide) hS hA (aDk ad ty hv σ _ κc cs (by decide)) (Nat.le_of_ble_eq_true rfl) (Nat.le_of_ble_eq_true rfl) hl.1 (Nat.le_of_ble_eq_true rfl) ⟨Nat.le_of_ble_eq_true rfl, Nat.le_of_ble_eq_true rfl⟩ dX1_lists_130 (fun H locs hP hD hS => ?_)
                                    rw [aDk_set ad ty hv σ _ κc cs (show 3 < 7 by decide)] at hP hD
                                    refine lv_aload_n hx hb dX1_lists_133 rfl (lv_at hl 7 rfl) ?_
                                    refine kM (va_runV (As := [.ref (ad 35), .ref (ad 48)]) (rest := []) ⟨hx, hb, hml, hown, hts⟩ (m_tries_3T l G ad ty hv σ (up (up (up ς 0 ge) 1 gf) 2 (sc (nc))) (setk κc 3 (s1) (r1) (y57_0) (t1)) cs hW hWT hlgT ⟨hs1a, by show s1 ≤ 7; omega, hr1a, by show r1 ≤ 1; omega, hb0, hb4, ht1a, by show t1 ≤ 4; omega⟩ ⟨hnc, by show nc < 400; have := ib_c r1 t1 5; omega⟩ H.size) (cwV 2 hts (lw_V q553 q555 qs21 q76 q556) rfl rfl rfl (by decide +kernel) ⟨Nat.le_of_ble_eq_true rfl, Nat.le_of_ble_eq_true rfl⟩) (pvM (r := (RX1, TX1, 21)) hK hP hD hX 0 (aD_0 _ _ _ _ _ _ _) rfl) rfl rfl hl.1 rfl (lv_room (Nat.le_of_ble_eq_true rfl)) dX1_lists_134 ⟨Nat.le_of_ble_eq_true rfl, Nat.le_of_ble_eq_true rfl⟩) hD hS hA (fun v ws1 H locs hv hP hD hS => ?_)
                                    obtain ⟨gg, gh, nd, rfl, rfl, hadd⟩ := hv
                                    change (mnOk σ (ς 11) (ς 12) 3 s1 r1 y57_0 t1 ∧ gg = ug ge nc (30000 + 1000 * s1 + 100 * r1 + 10 * y57_0 + t1) ∧ gh = ug gf nc (mnV σ 3 s1 y57_0 t1) ∧ nd = nc + 1) ∨ (¬ mnOk σ (ς 11) (ς 12) 3 s1 r1 y57_0 t1 ∧ gg = ge ∧ gh = gf ∧ nd = nc) at hadd
                                    have hLd : LI (lgl σ (ς 11) (ς 12)) (mvV σ) gg gh nd ((30000 + 1000 * s1 + 100 * r1) + 10 * y57_0 + (t1 + 1)) := LI_mv hadd hLe (by omega) (by omega) (by omega) (by omega) (by omega) (by omega) (by omega) (by omega) (by omega) (by omega)
                                    have hnd : nc ≤ nd ∧ nd ≤ nc + 1 ∧ (nd = nc ∨ r1 = 0) := by
                                      rcases hadd with ⟨q1, -, -, q2⟩ | ⟨-, -, -, q2⟩
                                      · have q3 := (mnOk_3.mp q1).2.2.2.1; omega
                                      · omega
                                    have hP : va_P G gcl (wD ad ty hv σ (up (up (up ς 0 gg) 1 gh) 2 (sc (nd))) (setk κc 3 (s1) (r1) (y57_0) (t1)) ++ cs) H := hP
                                    have hD : va_D A (wD ad ty hv σ (up (up (up ς 0 gg) 1 gh) 2 (sc (nd))) (setk κc 3 (s1) (r1) (y57_0) (t1)) ++ cs) := hD
                                    refine li_iinc (a := t1) (lv' := [(7, .int (ii (t1 + 1))), (6, .int (ii y57_0)), (5, .int (ii r1)), (4, .int (ii zl)), (3, .int (ii s1)), (2, .int (ii 3)), (0, .ref (ad 0)), (1, .ref (ad 48))]) hx hb dX1_lists_137 hl (k := 0) rfl (by decide) rfl (fun ls hl => ?_)
                                    refine lv_goto (tgt := 94) hx hb dX1_lists_140 (by decide) ?_
                                    exact ih (t1 + 1) (setk κc 3 (s1) (r1) (y57_0) (t1)) gg gh nd (by omega) (by omega) (by omega) (by have := ib_c r1 t1 5; have := ib_c r1 (t1 + 1) 5; omega) (.inl ⟨hb0, hb4, hLd⟩) (by omega) H locs hP hD hS ls (lv_sub hl [0, 1, 2, 3, 4, 5, 6, 7] rfl)
                              · refine li_if_eq (tgt := 143) hx hb ⟨by decide, by decide⟩ dX1_lists_101 (by decide) (fun c101 => ?_) (fun c101 => ?_)
                                · exact X94 t1 κc ge gf nc (by omega) (by have := ib_c r1 t1 5; have := ib_c (r1 + 1) 0 5; omega) (by rcases hLc with ⟨q1, q2, q3⟩ | ⟨q1, q2, q3⟩; exact LI_skip q3 (by omega) (by omega) (fun x a c h => by have h1 := hfrom x h (by omega) (by omega); have h2 := lgl_to h; omega); exact LI_skip q3 (by omega) (by omega) (fun x a c h => by have h1 := hfrom x h (by omega) (by omega); have := lgl_fr h; omega)) H locs hP hD hS ls (lv_sub hl [2, 3, 4, 5, 6, 7] rfl)
                                · exact absurd c101 (by decide)
                          exact L94 _ 0 κb gc gd nb (by omega) (by omega) (by omega) (by have := ib_c r1 0 5; omega) (by rcases Classical.em (0 ≤ y57_0 ∧ y57_0 ≤ 4) with e | e; exact .inl ⟨e.1, e.2, LI_skip hLb (by omega) (by omega) (fun x a c h => by have := hfrom x h (by omega) (by omega); omega)⟩; exact .inr ⟨e, rfl, hLb⟩) (Nat.lt_succ_self _) H locs hP hD hS ls (lv_sub hl [0, 1, 2, 3, 4, 5, 6, 7] rfl)
                        refine li_if_ne (tgt := 87) hx hb ⟨by omega, by omega⟩ dX1_lists_57 (by decide) (fun c57 => ?_) (fun c57 => ?_)
                        · refine lv_iload hx hb dX1_lists_87 (lv_at hl 1 rfl) ?_
                          exact J57 _ (⟨by unfold beg; omega, by omega, by omega⟩) H locs hP hD hS ls (lv_sub hl [0, 1, 2, 3, 4, 5] rfl)
                        · refine lv_iload hx hb dX1_lists_60 (lv_at hl 0 rfl) ?_
                          refine lv_aload_n hx hb dX1_lists_62 rfl (lv_at hl 4 rfl) ?_
                          refine va_get (D := G) (ci := 0) (v := .ref (ad 1)) (C := RX1) (T := TX1) (N := 21) hx hb hts in_X1 hown hK hP 0 (aD_0 _ _ _ _ _ _ _) rfl 0 (by decide) (hts _ q977) (fun _ h9 => h9) rfl dX1_lists_63 ?_
                          refine va_get (D := G) (ci := 1) (v := .int (ii (σ 10 0))) (C := RX2) (T := TX2) (N := 13) hx hb hts in_X2 hown hK hP 1 (aD_1 _ _ _ _ _ _ _) rfl 8 (by decide) (hts _ q801) (fun _ h9 => h9) rfl dX1_lists_66 ?_
                          refine li_icmp_ge (tgt := 82) hx hb ⟨by omega, by omega⟩ (rgi h10a h10b) dX1_lists_69 (by decide) (fun c69 => ?_) (fun c69 => ?_)
                          · refine li_bipush hx hb dX1_lists_82 (by decide) ?_
                            refine lv_goto (tgt := 89) hx hb dX1_lists_84 (by decide) ?_
                            exact J57 _ (⟨by unfold beg; omega, by omega, by omega⟩) H locs hP hD hS ls (lv_sub hl [0, 1, 2, 3, 4, 5] rfl)
                          · refine lv_aload_n hx hb dX1_lists_72 rfl (lv_at hl 5 rfl) ?_
                            refine va_get (D := G) (ci := 2) (v := .ref (ad 50)) (C := RX3) (T := TX3) (N := 2) hx hb hts in_X3 hown hK hP 48 (aD_48 _ _ _ _ _ _ _) rfl 1 (by decide) (hts _ q664) (fun _ h9 => h9) rfl dX1_lists_73 ?_
                            refine lv_iload hx hb dX1_lists_76 (lv_at hl 0 rfl) ?_
                            refine li_iald (g := (ς 12)) hx hb hK hP 50 0 (aD_50 _ _ _ _ _ _ _) rfl (by omega) (by omega) (by decide) dX1_lists_78 ?_
                            have r79 := hs1 r1
                            refine lv_goto (tgt := 89) hx hb dX1_lists_79 (by decide) ?_
                            exact J57 _ (⟨by unfold beg; omega, by omega, by omega⟩) H locs hP hD hS ls (lv_sub hl [0, 1, 2, 3, 4, 5] rfl)
                      · refine lv_iload hx hb dX1_lists_51 (lv_at hl 0 rfl) ?_
                        refine li_if_ne (tgt := 149) hx hb ⟨by omega, by omega⟩ dX1_lists_53 (by decide) (fun c53 => ?_) (fun c53 => ?_)
                        · exact X39 r1 κb gc gd nb (by omega) (by have := ib_c r1 0 5; omega) (LI_skip hLb (by omega) (by omega) (fun x a c => lgl_rope_a h10a h10b (by omega) (by omega) (by omega) (by omega) (by omega))) H locs hP hD hS ls (lv_sub hl [2, 3, 4, 5] rfl)
                        · refine lv_iload_n hx hb dX1_lists_56 rfl (lv_at hl 2 rfl) ?_
                          have J57 : ∀ (y57_0 : Int) (_ : beg σ (ς 12) zl s1 r1 y57_0 ∧ -4 ≤ y57_0 ∧ y57_0 ≤ 5) (H : Heap) (locs : List Loc) (_ : va_P G gcl (wD ad ty hv σ (up (up (up ς 0 gc) 1 gd) 2 (sc (nb))) κb ++ cs) H) (_ : va_D A (wD ad ty hv σ (up (up (up ς 0 gc) 1 gd) 2 (sc (nb))) κb ++ cs)) (_ : va_S A s.heap H locs) (ls : Array Slot), lv_has ls 8 [(5, .int (ii r1)), (4, .int (ii zl)), (3, .int (ii s1)), (2, .int (ii 3)), (0, .ref (ad 0)), (1, .ref (ad 48))] → W p l e (rm4 4 0 0 93) s m args below meth c H locs 0 0 Q (F0 m 89 ls [.int (ii y57_0)]) := by
                            intro y57_0 hj57 H locs hP hD hS ls hl
                            refine lv_istore (lv' := [(6, .int (ii y57_0)), (5, .int (ii r1)), (4, .int (ii zl)), (3, .int (ii s1)), (2, .int (ii 3)), (0, .ref (ad 0)), (1, .ref (ad 48))]) hx hb dX1_lists_89 hl (by decide) rfl (fun ls hl => ?_)
                            have hfrom : ∀ x, lgl σ (ς 11) (ς 12) x → (30000 + 1000 * s1 + 100 * r1) ≤ x → x < (30000 + 1000 * s1 + 100 * r1) + 100 → x / 10 % 10 = y57_0 := fun x h a c => lgl_from h (k := 3) (s := s1) (r := r1) (by omega) (by omega) (by omega) hzl2 hj57.1
                            refine li_iconst hx hb dX1_lists_91 ?_
                            refine lv_istore (lv' := [(7, .int (ii 0)), (6, .int (ii y57_0)), (5, .int (ii r1)), (4, .int (ii zl)), (3, .int (ii s1)), (2, .int (ii 3)), (0, .ref (ad 0)), (1, .ref (ad 48))]) hx hb dX1_lists_92 hl (by decide) rfl (fun ls hl => ?_)
                            have X94 : ∀ (t1 : Int) (κc : mem) (ge : Int → Int) (gf : Int → Int) (nc : Int) (_ : 0 ≤ nc) (_ : nc ≤ 160 + 5 * s1 + ib (r1 + 1) 0 5) (_ : LI (lgl σ (ς 11) (ς 12)) (mvV σ) ge gf nc ((30000 + 1000 * s1 + 100 * r1) + 100)) (H : Heap) (locs : List Loc) (_ : va_P G gcl (wD ad ty hv σ (up (up (up ς 0 ge) 1 gf) 2 (sc (nc))) κc ++ cs) H) (_ : va_D A (wD ad ty hv σ (up (up (up ς 0 ge) 1 gf) 2 (sc (nc))) κc ++ cs)) (_ : va_S A s.heap H locs) (ls : Array Slot), lv_has ls 8 [(5, .int (ii r1)), (4, .int (ii zl)), (3, .int (ii s1)), (2, .int (ii 3)), (0, .ref (ad 0)), (1, .ref (ad 48))] → W p l e (rm4 4 0 0 93) s m args below meth c H locs 0 0 Q (F0 m 143 ls []) := by
                              intro t1 κc ge gf nc hnc hBc hLz H locs hP hD hS ls hl
                              refine li_iinc (a := r1) (lv' := [(5, .int (ii (r1 + 1))), (4, .int (ii zl)), (3, .int (ii s1)), (2, .int (ii 3)), (0, .ref (ad 0)), (1, .ref (ad 48))]) hx hb dX1_lists_143 hl (k := 0) rfl (by decide) rfl (fun ls hl => ?_)
                              refine lv_goto (tgt := 39) hx hb dX1_lists_146 (by decide) ?_
                              exact ih (r1 + 1) κc ge gf nc (by omega) (by omega) (by omega) (hBc) (by rw [show (30000 + 1000 * s1 + 100 * (r1 + 1)) = 30000 + 1000 * s1 + 100 * r1 + 100 by omega]; exact hLz) (by omega) H locs hP hD hS ls (lv_sub hl [0, 1, 2, 3, 4, 5] rfl)
                            have L94 : ∀ (n : Nat) (t1 : Int) (κc : mem) (ge : Int → Int) (gf : Int → Int) (nc : Int) (_ : 0 ≤ t1) (_ : t1 ≤ σ 8 0) (_ : 0 ≤ nc) (_ : nc ≤ 160 + 5 * s1 + ib r1 t1 5) (_ : LQ (lgl σ (ς 11) (ς 12)) (mvV σ) ge gf nc ((30000 + 1000 * s1 + 100 * r1) + 10 * y57_0 + t1) (30000 + 1000 * s1 + 100 * r1) t1 y57_0) (_ : (5 - t1).toNat < n) (H : Heap) (locs : List Loc) (_ : va_P G gcl (wD ad ty hv σ (up (up (up ς 0 ge) 1 gf) 2 (sc (nc))) κc ++ cs) H) (_ : va_D A (wD ad ty hv σ (up (up (up ς 0 ge) 1 gf) 2 (sc (nc))) κc ++ cs)) (_ : va_S A s.heap H locs) (ls : Array Slot), lv_has ls 8 [(7, .int (ii t1)), (6, .int (ii y57_0)), (5, .int (ii r1)), (4, .int (ii zl)), (3, .int (ii s1)), (2, .int (ii 3)), (0, .ref (ad 0)), (1, .ref (ad 48))] → W p l e (rm4 4 0 0 93) s m args below meth c H locs 0 0 Q (F0 m 94 ls []) := by
                              intro n
                              induction n with
                              | zero =>
                                intro t1 κc ge gf nc ht1a ht1b hnc hBc hLc hm
                                exact absurd hm (Nat.not_lt_zero _)
                              | succ n ih =>
                                intro t1 κc ge gf nc ht1a ht1b hnc hBc hLc hm H locs hP hD hS ls hl
                                refine lv_iload hx hb dX1_lists_94 (lv_at hl 1 rfl) ?_
                                refine li_iconst hx hb dX1_lists_96 ?_
                                refine li_iconst hx hb dX1_lists_97 ?_
                                refine kR (va_runS (As := [.int (ii y57_0), .int (ii 0), .int (ii 4)]) (rest := []) ⟨hx, hb, hml, hown, hts⟩ (m_isIn l G ty (wD ad ty hv σ (up (up (up ς 0 ge) 1 gf) 2 (sc (nc))) κc ++ cs) y57_0 0 4 ⟨by omega, by omega⟩ ⟨by decide, by decide⟩ ⟨by decide, by decide⟩) (va_cwS 3 hts (lw_S q117 q118 q76 q119) rfl rfl rfl (by decide +kernel) ⟨Nat.le_of_ble_eq_true rfl, Nat.le_of_ble_eq_true rfl⟩) (psR hK hP hD hX) rfl rfl hl.1 rfl (lv_room (Nat.le_of_ble_eq_true rfl)) dX1_lists_98 ⟨Nat.le_of_ble_eq_true rfl, Nat.le_of_ble_eq_true rfl⟩) (fun v hv => ?_)
                                obtain ⟨z98, rfl, ⟨rfl, h98⟩ | ⟨rfl, h98⟩⟩ := hv
                                · refine li_if_eq (tgt := 143) hx hb ⟨by decide, by decide⟩ dX1_lists_101 (by decide) (fun c101 => ?_) (fun c101 => ?_)
                                  · exact absurd c101 (by decide)
                                  · refine lv_iload hx hb dX1_lists_104 (lv_at hl 0 rfl) ?_
                                    refine lv_aload_n hx hb dX1_lists_106 rfl (lv_at hl 6 rfl) ?_
                                    refine va_get (D := G) (ci := 0) (v := .ref (ad 1)) (C := RX1) (T := TX1) (N := 21) hx hb hts in_X1 hown hK hP 0 (aD_0 _ _ _ _ _ _ _) rfl 0 (by decide) (hts _ q977) (fun _ h9 => h9) rfl dX1_lists_107 ?_
                                    refine va_get (D := G) (ci := 1) (v := .int (ii (σ 8 0))) (C := RX2) (T := TX2) (N := 13) hx hb hts in_X2 hown hK hP 1 (aD_1 _ _ _ _ _ _ _) rfl 4 (by decide) (hts _ q785) (fun _ h9 => h9) rfl dX1_lists_110 ?_
                                    refine li_icmp_ge (tgt := 143) hx hb ⟨by omega, by omega⟩ (rgi h8a h8b) dX1_lists_113 (by decide) (fun c113 => ?_) (fun c113 => ?_)
                                    · exact X94 t1 κc ge gf nc (by omega) (by have := ib_c r1 t1 5; have := ib_c (r1 + 1) 0 5; omega) (by rcases hLc with ⟨q1, q2, q3⟩ | ⟨q1, q2, q3⟩; exact LI_skip q3 (by omega) (by omega) (fun x a c h => by have h1 := hfrom x h (by omega) (by omega); have h2 := lgl_to h; omega); exact LI_skip q3 (by omega) (by omega) (fun x a c h => by have h1 := hfrom x h (by omega) (by omega); have := lgl_fr h; omega)) H locs hP hD hS ls (lv_sub hl [2, 3, 4, 5, 6, 7] rfl)
                                    · have hb0 : 0 ≤ y57_0 := h98.1
                                      have hb4 : y57_0 ≤ 4 := h98.2
                                      have hLe := LI_in hLc ⟨hb0, hb4⟩
                                      refine lv_aload_n hx hb dX1_lists_116 rfl (lv_at hl 6 rfl) ?_
                                      refine lv_aload_n hx hb dX1_lists_117 rfl (lv_at hl 6 rfl) ?_
                                      refine va_get (D := G) (ci := 0) (v := .ref (ad 31)) (C := RX1) (T := TX1) (N := 21) hx hb hts in_X1 hown hK hP 0 (aD_0 _ _ _ _ _ _ _) rfl 4 (by decide) (hts _ q981) (fun _ h9 => h9) rfl dX1_lists_118 ?_
                                      refine lv_iload_n hx hb dX1_lists_121 rfl (lv_at hl 5 rfl) ?_
                                      refine li_aald (q := ad 35) hx hb hK hP 31 5 (aD_31 _ _ _ _ _ _ _) rfl (by decide) (by decide) (by decide) (rfl) dX1_lists_122 ?_
                                      refine lv_iload_n hx hb dX1_lists_123 rfl (lv_at hl 4 rfl) ?_
                                      refine lv_iload hx hb dX1_lists_124 (lv_at hl 2 rfl) ?_
                                      refine lv_iload hx hb dX1_lists_126 (lv_at hl 1 rfl) ?_
                                      refine lv_iload hx hb dX1_lists_128 (lv_at hl 0 rfl) ?_
                                      refine v_tells (mi := 35) (md := ad 35) (a1 := s1) (a2 := r1) (a3 := y57_0) (a4 := t1) hx hb hml hown hts hK hP hD hX 3 (by decide) hS hA (aDk ad ty hv σ _ κc cs (by decide)) (Nat.le_of_ble_eq_true rfl) (Nat.le_of_ble_eq_true rfl) hl.1 (Nat.le_of_ble_eq_true rfl) ⟨Nat.le_of_ble_eq_true rfl, Nat.le_of_ble_eq_true rfl⟩ dX1_lists_130 (fun H locs hP hD hS => ?_)
                                      rw [aDk_set ad ty hv σ _ κc cs (show 3 < 7 by decide)] at hP hD
                                      refine lv_aload_n hx hb dX1_lists_133 rfl (lv_at hl 7 rfl) ?_
                                      refine kM (va_runV (As := [.ref (ad 35), .ref (ad 48)]) (rest := []) ⟨hx, hb, hml, hown, hts⟩ (m_tries_3T l G ad ty hv σ (up (up (up ς 0 ge) 1 gf) 2 (sc (nc))) (setk κc 3 (s1) (r1) (y57_0) (t1)) cs hW hWT hlgT ⟨hs1a, by show s1 ≤ 7; omega, hr1a, by show r1 ≤ 1; omega, hb0, hb4, ht1a, by show t1 ≤ 4; omega⟩ ⟨hnc, by show nc < 400; have := ib_c r1 t1 5; omega⟩ H.size) (cwV 2 hts (lw_V q553 q555 qs21 q76 q556) rfl rfl rfl (by decide +kernel) ⟨Nat.le_of_ble_eq_true rfl, Nat.le_of_ble_eq_true rfl⟩) (pvM (r := (RX1, TX1, 21)) hK hP hD hX 0 (aD_0 _ _ _ _ _ _ _) rfl) rfl rfl hl.1 rfl (lv_room (Nat.le_of_ble_eq_true rfl)) dX1_lists_134 ⟨Nat.le_of_ble_eq_true rfl, Nat.le_of_ble_eq_true rfl⟩) hD hS hA (fun v ws1 H locs hv hP hD hS => ?_)
                                      obtain ⟨gg, gh, nd, rfl, rfl, hadd⟩ := hv
                                      change (mnOk σ (ς 11) (ς 12) 3 s1 r1 y57_0 t1 ∧ gg = ug ge nc (30000 + 1000 * s1 + 100 * r1 + 10 * y57_0 + t1) ∧ gh = ug gf nc (mnV σ 3 s1 y57_0 t1) ∧ nd = nc + 1) ∨ (¬ mnOk σ (ς 11) (ς 12) 3 s1 r1 y57_0 t1 ∧ gg = ge ∧ gh = gf ∧ nd = nc) at hadd
                                      have hLd : LI (lgl σ (ς 11) (ς 12)) (mvV σ) gg gh nd ((30000 + 1000 * s1 + 100 * r1) + 10 * y57_0 + (t1 + 1)) := LI_mv hadd hLe (by omega) (by omega) (by omega) (by omega) (by omega) (by omega) (by omega) (by omega) (by omega) (by omega)
                                      have hnd : nc ≤ nd ∧ nd ≤ nc + 1 ∧ (nd = nc ∨ r1 = 0) := by
                                        rcases hadd with ⟨q1, -, -, q2⟩ | ⟨-, -, -, q2⟩
                                        · have q3 := (mnOk_3.mp q1).2.2.2.1; omega
                                        · omega
                                      have hP : va_P G gcl (wD ad ty hv σ (up (up (up ς 0 gg) 1 gh) 2 (sc (nd))) (setk κc 3 (s1) (r1) (y57_0) (t1)) ++ cs) H := hP
                                      have hD : va_D A (wD ad ty hv σ (up (up (up ς 0 gg) 1 gh) 2 (sc (nd))) (setk κc 3 (s1) (r1) (y57_0) (t1)) ++ cs) := hD
                                      refine li_iinc (a := t1) (lv' := [(7, .int (ii (t1 + 1))), (6, .int (ii y57_0)), (5, .int (ii r1)), (4, .int (ii zl)), (3, .int (ii s1)), (2, .int (ii 3)), (0, .ref (ad 0)), (1, .ref (ad 48))]) hx hb dX1_lists_137 hl (k := 0) rfl (by decide) rfl (fun ls hl => ?_)
                                      refine lv_goto (tgt := 94) hx hb dX1_lists_140 (by decide) ?_
                                      exact ih (t1 + 1) (setk κc 3 (s1) (r1) (y57_0) (t1)) gg gh nd (by omega) (by omega) (by omega) (by have := ib_c r1 t1 5; have := ib_c r1 (t1 + 1) 5; omega) (.inl ⟨hb0, hb4, hLd⟩) (by omega) H locs hP hD hS ls (lv_sub hl [0, 1, 2, 3, 4, 5, 6, 7] rfl)
                                · refine li_if_eq (tgt := 143) hx hb ⟨by decide, by decide⟩ dX1_lists_101 (by decide) (fun c101 => ?_) (fun c101 => ?_)
                                  · exact X94 t1 κc ge gf nc (by omega) (by have := ib_c r1 t1 5; have := ib_c (r1 + 1) 0 5; omega) (by rcases hLc with ⟨q1, q2, q3⟩ | ⟨q1, q2, q3⟩; exact LI_skip q3 (by omega) (by omega) (fun x a c h => by have h1 := hfrom x h (by omega) (by omega); have h2 := lgl_to h; omega); exact LI_skip q3 (by omega) (by omega) (fun x a c h => by have h1 := hfrom x h (by omega) (by omega); have := lgl_fr h; omega)) H locs hP hD hS ls (lv_sub hl [2, 3, 4, 5, 6, 7] rfl)
                                  · exact absurd c101 (by decide)
                            exact L94 _ 0 κb gc gd nb (by omega) (by omega) (by omega) (by have := ib_c r1 0 5; omega) (by rcases Classical.em (0 ≤ y57_0 ∧ y57_0 ≤ 4) with e | e; exact .inl ⟨e.1, e.2, LI_skip hLb (by omega) (by omega) (fun x a c h => by have := hfrom x h (by omega) (by omega); omega)⟩; exact .inr ⟨e, rfl, hLb⟩) (Nat.lt_succ_self _) H locs hP hD hS ls (lv_sub hl [0, 1, 2, 3, 4, 5, 6, 7] rfl)
                          refine li_if_ne (tgt := 87) hx hb ⟨by omega, by omega⟩ dX1_lists_57 (by decide) (fun c57 => ?_) (fun c57 => ?_)
                          · refine lv_iload hx hb dX1_lists_87 (lv_at hl 1 rfl) ?_
                            exact J57 _ (⟨by unfold beg; omega, by omega, by omega⟩) H locs hP hD hS ls (lv_sub hl [0, 1, 2, 3, 4, 5] rfl)
                          · refine lv_iload hx hb dX1_lists_60 (lv_at hl 0 rfl) ?_
                            refine lv_aload_n hx hb dX1_lists_62 rfl (lv_at hl 4 rfl) ?_
                            refine va_get (D := G) (ci := 0) (v := .ref (ad 1)) (C := RX1) (T := TX1) (N := 21) hx hb hts in_X1 hown hK hP 0 (aD_0 _ _ _ _ _ _ _) rfl 0 (by decide) (hts _ q977) (fun _ h9 => h9) rfl dX1_lists_63 ?_
                            refine va_get (D := G) (ci := 1) (v := .int (ii (σ 10 0))) (C := RX2) (T := TX2) (N := 13) hx hb hts in_X2 hown hK hP 1 (aD_1 _ _ _ _ _ _ _) rfl 8 (by decide) (hts _ q801) (fun _ h9 => h9) rfl dX1_lists_66 ?_
                            refine li_icmp_ge (tgt := 82) hx hb ⟨by omega, by omega⟩ (rgi h10a h10b) dX1_lists_69 (by decide) (fun c69 => ?_) (fun c69 => ?_)
                            · refine li_bipush hx hb dX1_lists_82 (by decide) ?_
                              refine lv_goto (tgt := 89) hx hb dX1_lists_84 (by decide) ?_
                              exact J57 _ (⟨by unfold beg; omega, by omega, by omega⟩) H locs hP hD hS ls (lv_sub hl [0, 1, 2, 3, 4, 5] rfl)
                            · refine lv_aload_n hx hb dX1_lists_72 rfl (lv_at hl 5 rfl) ?_
                              refine va_get (D := G) (ci := 2) (v := .ref (ad 50)) (C := RX3) (T := TX3) (N := 2) hx hb hts in_X3 hown hK hP 48 (aD_48 _ _ _ _ _ _ _) rfl 1 (by decide) (hts _ q664) (fun _ h9 => h9) rfl dX1_lists_73 ?_
                              refine lv_iload hx hb dX1_lists_76 (lv_at hl 0 rfl) ?_
                              refine li_iald (g := (ς 12)) hx hb hK hP 50 0 (aD_50 _ _ _ _ _ _ _) rfl (by omega) (by omega) (by decide) dX1_lists_78 ?_
                              have r79 := hs1 r1
                              refine lv_goto (tgt := 89) hx hb dX1_lists_79 (by decide) ?_
                              exact J57 _ (⟨by unfold beg; omega, by omega, by omega⟩) H locs hP hD hS ls (lv_sub hl [0, 1, 2, 3, 4, 5] rfl)
                  exact L39 _ 0 κa ga gb na (by omega) (by omega) (by omega) (by have := ib_c 0 0 5; omega) (by rw [show (30000 + 1000 * s1 + 100 * (0 : Int)) = 30000 + 1000 * s1 by omega]; exact hLa) (Nat.lt_succ_self _) H locs hP hD hS ls (lv_sub hl [0, 1, 2, 3, 4, 5] rfl)
            exact L15 _ 0 κa ga gb na (by omega) (by omega) (by omega) (by omega) (by omega) (by first | exact LI_skip (LI_0 _ _ _ _) (by decide) (by decide) (fun x a c => lgl_0 (by omega)) | (rw [show (30000 + 1000 * (0 : Int)) = 30000 by rfl]; exact hLx)) (Nat.lt_succ_self _) H locs hP hD hS ls (lv_sub hl [0, 1, 2, 3] rfl)
        have L15 : ∀ (n : Nat) (s1 : Int) (κa : mem) (ga : Int → Int) (gb : Int → Int) (na : Int) (_ : 0 ≤ s1) (_ : s1 ≤ p2 (σ 9 0)) (_ : s1 ≤ 8) (_ : 0 ≤ na) (_ : na ≤ 80 + 10 * s1) (_ : LI (lgl σ (ς 11) (ς 12)) (mvV σ) ga gb na (20000 + 1000 * s1)) (_ : (8 - s1).toNat < n) (H : Heap) (locs : List Loc) (_ : va_P G gcl (wD ad ty hv σ (up (up (up ς 0 ga) 1 gb) 2 (sc (na))) κa ++ cs) H) (_ : va_D A (wD ad ty hv σ (up (up (up ς 0 ga) 1 gb) 2 (sc (na))) κa ++ cs)) (_ : va_S A s.heap H locs) (ls : Array Slot), lv_has ls 8 [(3, .int (ii s1)), (2, .int (ii 2)), (0, .ref (ad 0)), (1, .ref (ad 48))] → W p l e (rm4 4 0 0 93) s m args below meth c H locs 0 0 Q (F0 m 15 ls []) := by
          intro n
          induction n with
          | zero =>
            intro s1 κa ga gb na hs1a hs1b hs7 hna hBa hLa hm
            exact absurd hm (Nat.not_lt_zero _)
          | succ n ih =>
            intro s1 κa ga gb na hs1a hs1b hs7 hna hBa hLa hm H locs hP hD hS ls hl
            refine lv_iload_n hx hb dX1_lists_15 rfl (lv_at hl 0 rfl) ?_
            refine li_iconst hx hb dX1_lists_16 ?_
            refine lv_aload_n hx hb dX1_lists_17 rfl (lv_at hl 2 rfl) ?_
            refine va_get (D := G) (ci := 0) (v := .ref (ad 1)) (C := RX1) (T := TX1) (N := 21) hx hb hts in_X1 hown hK hP 0 (aD_0 _ _ _ _ _ _ _) rfl 0 (by decide) (hts _ q977) (fun _ h9 => h9) rfl dX1_lists_18 ?_
            refine va_get (D := G) (ci := 1) (v := .int (ii (σ 9 0))) (C := RX2) (T := TX2) (N := 13) hx hb hts in_X2 hown hK hP 1 (aD_1 _ _ _ _ _ _ _) rfl 6 (by decide) (hts _ q790) (fun _ h9 => h9) rfl dX1_lists_21 ?_
            refine lv_ishl hx hb dX1_lists_24 ?_
            refine li_topx (z := p2 (σ 9 0)) (ii_shl1 h9a h9b) ?_
            refine li_icmp_ge (tgt := 155) hx hb ⟨by omega, by omega⟩ ⟨by omega, by omega⟩ dX1_lists_25 (by decide) (fun c25 => ?_) (fun c25 => ?_)
            · exact X15 s1 κa ga gb na (by omega) (by omega) (LI_skip hLa (by omega) (by omega) (fun x a c => lgl_set h9a h9b (by omega) (by omega))) H locs hP hD hS ls (lv_sub hl [1, 2, 3] rfl)
            · refine lv_aload_n hx hb dX1_lists_28 rfl (lv_at hl 2 rfl) ?_
              refine lv_iload_n hx hb dX1_lists_29 rfl (lv_at hl 0 rfl) ?_
              refine lv_aload_n hx hb dX1_lists_30 rfl (lv_at hl 3 rfl) ?_
              refine kR (va_runV (As := [.int (ii s1), .ref (ad 48)]) (rest := []) ⟨hx, hb, hml, hown, hts⟩ (m_ledgeOfT l G ad ty hv σ (up (up (up ς 0 ga) 1 gb) 2 (sc (na))) κa cs s1 hW hWT ⟨by omega, by omega⟩) (cwV 2 hts (lw_V q549 q551 qs20 q76 q552) rfl rfl rfl (by decide +kernel) ⟨Nat.le_of_ble_eq_true rfl, Nat.le_of_ble_eq_true rfl⟩) (pvR (r := (RX1, TX1, 21)) hK hP hD hX 0 (aD_0 _ _ _ _ _ _ _) rfl) rfl rfl hl.1 rfl (lv_room (Nat.le_of_ble_eq_true rfl)) dX1_lists_31 ⟨Nat.le_of_ble_eq_true rfl, Nat.le_of_ble_eq_true rfl⟩) (fun v hv => ?_)
              obtain ⟨zl, rfl, hzl, hzl2⟩ := hv
              replace hzl : -4 ≤ zl ∧ zl ≤ 4 := by omega
              refine lv_istore (lv' := [(4, .int (ii zl)), (3, .int (ii s1)), (2, .int (ii 2)), (0, .ref (ad 0)), (1, .ref (ad 48))]) hx hb dX1_lists_34 hl (by decide) rfl (fun ls hl => ?_)
              refine li_iconst hx hb dX1_lists_36 ?_
              refine lv_istore (lv' := [(5, .int (ii 0)), (4, .int (ii zl)), (3, .int (ii s1)), (2, .int (ii 2)), (0, .ref (ad 0)), (1, .ref (ad 48))]) hx hb dX1_lists_37 hl (by decide) rfl (fun ls hl => ?_)
              have X39 : ∀ (r1 : Int) (κb : mem) (gc : Int → Int) (gd : Int → Int) (nb : Int) (_ : 0 ≤ nb) (_ : nb ≤ 80 + 10 * (s1 + 1)) (_ : LI (lgl σ (ς 11) (ς 12)) (mvV σ) gc gd nb (20000 + 1000 * s1 + 1000)) (H : Heap) (locs : List Loc) (_ : va_P G gcl (wD ad ty hv σ (up (up (up ς 0 gc) 1 gd) 2 (sc (nb))) κb ++ cs) H) (_ : va_D A (wD ad ty hv σ (up (up (up ς 0 gc) 1 gd) 2 (sc (nb))) κb ++ cs)) (_ : va_S A s.heap H locs) (ls : Array Slot), lv_has ls 8 [(3, .int (ii s1)), (2, .int (ii 2)), (0, .ref (ad 0)), (1, .ref (ad 48))] → W p l e (rm4 4 0 0 93) s m args below meth c H locs 0 0 Q (F0 m 149 ls []) := by
                intro r1 κb gc gd nb hnb hBb hLy H locs hP hD hS ls hl
                refine li_iinc (a := s1) (lv' := [(3, .int (ii (s1 + 1))), (2, .int (ii 2)), (0, .ref (ad 0)), (1, .ref (ad 48))]) hx hb dX1_lists_149 hl (k := 0) rfl (by decide) rfl (fun ls hl => ?_)
                refine lv_goto (tgt := 15) hx hb dX1_lists_152 (by decide) ?_
                exact ih (s1 + 1) κb gc gd nb (by omega) (by omega) (by omega) (by omega) (hBb) (by rw [show (20000 + 1000 * (s1 + 1)) = 20000 + 1000 * s1 + 1000 by omega]; exact hLy) (by omega) H locs hP hD hS ls (lv_sub hl [0, 1, 2, 3] rfl)
              have L39 : ∀ (n : Nat) (r1 : Int) (κb : mem) (gc : Int → Int) (gd : Int → Int) (nb : Int) (_ : 0 ≤ r1) (_ : r1 ≤ 2) (_ : 0 ≤ nb) (_ : nb ≤ 80 + 10 * s1 + 5 * r1) (_ : LI (lgl σ (ς 11) (ς 12)) (mvV σ) gc gd nb (20000 + 1000 * s1 + 100 * r1)) (_ : (2 - r1).toNat < n) (H : Heap) (locs : List Loc) (_ : va_P G gcl (wD ad ty hv σ (up (up (up ς 0 gc) 1 gd) 2 (sc (nb))) κb ++ cs) H) (_ : va_D A (wD ad ty hv σ (up (up (up ς 0 gc) 1 gd) 2 (sc (nb))) κb ++ cs)) (_ : va_S A s.heap H locs) (ls : Array Slot), lv_has ls 8 [(5, .int (ii r1)), (4, .int (ii zl)), (3, .int (ii s1)), (2, .int (ii 2)), (0, .ref (ad 0)), (1, .ref (ad 48))] → W p l e (rm4 4 0 0 93) s m args below meth c H locs 0 0 Q (F0 m 39 ls []) := by
                intro n
                induction n with
                | zero =>
                  intro r1 κb gc gd nb hr1a hr1b hnb hBb hLb hm
                  exact absurd hm (Nat.not_lt_zero _)
                | succ n ih =>
                  intro r1 κb gc gd nb hr1a hr1b hnb hBb hLb hm H locs hP hD hS ls hl
                  refine lv_iload hx hb dX1_lists_39 (lv_at hl 0 rfl) ?_
                  refine lv_aload_n hx hb dX1_lists_41 rfl (lv_at hl 4 rfl) ?_
                  refine va_get (D := G) (ci := 0) (v := .ref (ad 1)) (C := RX1) (T := TX1) (N := 21) hx hb hts in_X1 hown hK hP 0 (aD_0 _ _ _ _ _ _ _) rfl 0 (by decide) (hts _ q977) (fun _ h9 => h9) rfl dX1_lists_42 ?_
                  refine va_get (D := G) (ci := 1) (v := .int (ii (σ 10 0))) (C := RX2) (T := TX2) (N := 13) hx hb hts in_X2 hown hK hP 1 (aD_1 _ _ _ _ _ _ _) rfl 8 (by decide) (hts _ q801) (fun _ h9 => h9) rfl dX1_lists_45 ?_
                  refine li_icmp_lt (tgt := 56) hx hb ⟨by omega, by omega⟩ (rgi h10a h10b) dX1_lists_48 (by decide) (fun c48 => ?_) (fun c48 => ?_)
                  · refine lv_iload_n hx hb dX1_lists_56 rfl (lv_at hl 2 rfl) ?_
                    have J57 : ∀ (y57_0 : Int) (_ : beg σ (ς 12) zl s1 r1 y57_0 ∧ -4 ≤ y57_0 ∧ y57_0 ≤ 5) (H : Heap) (locs : List Loc) (_ : va_P G gcl (wD ad ty hv σ (up (up (up ς 0 gc) 1 gd) 2 (sc (nb))) κb ++ cs) H) (_ : va_D A (wD ad ty hv σ (up (up (up ς 0 gc) 1 gd) 2 (sc (nb))) κb ++ cs)) (_ : va_S A s.heap H locs) (ls : Array Slot), lv_has ls 8 [(5, .int (ii r1)), (4, .int (ii zl)), (3, .int (ii s1)), (2, .int (ii 2)), (0, .ref (ad 0)), (1, .ref (ad 48))] → W p l e (rm4 4 0 0 93) s m args below meth c H locs 0 0 Q (F0 m 89 ls [.int (ii y57_0)]) := by
                      intro y57_0 hj57 H locs hP hD hS ls hl
                      refine lv_istore (lv' := [(6, .int (ii y57_0)), (5, .int (ii r1)), (4, .int (ii zl)), (3, .int (ii s1)), (2, .int (ii 2)), (0, .ref (ad 0)), (1, .ref (ad 48))]) hx hb dX1_lists_89 hl (by decide) rfl (fun ls hl => ?_)
                      have hfrom : ∀ x, lgl σ (ς 11) (ς 12) x → (20000 + 1000 * s1 + 100 * r1) ≤ x → x < (20000 + 1000 * s1 + 100 * r1) + 100 → x / 10 % 10 = y57_0 := fun x h a c => lgl_from h (k := 2) (s := s1) (r := r1) (by omega) (by omega) (by omega) hzl2 hj57.1
                      refine li_iconst hx hb dX1_lists_91 ?_
                      refine lv_istore (lv' := [(7, .int (ii 0)), (6, .int (ii y57_0)), (5, .int (ii r1)), (4, .int (ii zl)), (3, .int (ii s1)), (2, .int (ii 2)), (0, .ref (ad 0)), (1, .ref (ad 48))]) hx hb dX1_lists_92 hl (by decide) rfl (fun ls hl => ?_)
                      have X94 : ∀ (t1 : Int) (κc : mem) (ge : Int → Int) (gf : Int → Int) (nc : Int) (_ : 0 ≤ nc) (_ : nc ≤ 80 + 10 * s1 + 5 * (r1 + 1)) (_ : LI (lgl σ (ς 11) (ς 12)) (mvV σ) ge gf nc ((20000 + 1000 * s1 + 100 * r1) + 100)) (H : Heap) (locs : List Loc) (_ : va_P G gcl (wD ad ty hv σ (up (up (up ς 0 ge) 1 gf) 2 (sc (nc))) κc ++ cs) H) (_ : va_D A (wD ad ty hv σ (up (up (up ς 0 ge) 1 gf) 2 (sc (nc))) κc ++ cs)) (_ : va_S A s.heap H locs) (ls : Array Slot), lv_has ls 8 [(5, .int (ii r1)), (4, .int (ii zl)), (3, .int (ii s1)), (2, .int (ii 2)), (0, .ref (ad 0)), (1, .ref (ad 48))] → W p l e (rm4 4 0 0 93) s m args below meth c H locs 0 0 Q (F0 m 143 ls []) := by
                        intro t1 κc ge gf nc hnc hBc hLz H locs hP hD hS ls hl
                        refine li_iinc (a := r1) (lv' := [(5, .int (ii (r1 + 1))), (4, .int (ii zl)), (3, .int (ii s1)), (2, .int (ii 2)), (0, .ref (ad 0)), (1, .ref (ad 48))]) hx hb dX1_lists_143 hl (k := 0) rfl (by decide) rfl (fun ls hl => ?_)
                        refine lv_goto (tgt := 39) hx hb dX1_lists_146 (by decide) ?_
                        exact ih (r1 + 1) κc ge gf nc (by omega) (by omega) (by omega) (hBc) (by rw [show (20000 + 1000 * s1 + 100 * (r1 + 1)) = 20000 + 1000 * s1 + 100 * r1 + 100 by omega]; exact hLz) (by omega) H locs hP hD hS ls (lv_sub hl [0, 1, 2, 3, 4, 5] rfl)
                      have L94 : ∀ (n : Nat) (t1 : Int) (κc : mem) (ge : Int → Int) (gf : Int → Int) (nc : Int) (_ : 0 ≤ t1) (_ : t1 ≤ σ 8 0) (_ : 0 ≤ nc) (_ : nc ≤ 80 + 10 * s1 + 5 * r1 + t1) (_ : LQ (lgl σ (ς 11) (ς 12)) (mvV σ) ge gf nc ((20000 + 1000 * s1 + 100 * r1) + 10 * y57_0 + t1) (20000 + 1000 * s1 + 100 * r1) t1 y57_0) (_ : (5 - t1).toNat < n) (H : Heap) (locs : List Loc) (_ : va_P G gcl (wD ad ty hv σ (up (up (up ς 0 ge) 1 gf) 2 (sc (nc))) κc ++ cs) H) (_ : va_D A (wD ad ty hv σ (up (up (up ς 0 ge) 1 gf) 2 (sc (nc))) κc ++ cs)) (_ : va_S A s.heap H locs) (ls : Array Slot), lv_has ls 8 [(7, .int (ii t1)), (6, .int (ii y57_0)), (5, .int (ii r1)), (4, .int (ii zl)), (3, .int (ii s1)), (2, .int (ii 2)), (0, .ref (ad 0)), (1, .ref (ad 48))] → W p l e (rm4 4 0 0 93) s m args below meth c H locs 0 0 Q (F0 m 94 ls []) := by
                        intro n
                        induction n with
                        | zero =>
                          intro t1 κc ge gf nc ht1a ht1b hnc hBc hLc hm
                          exact absurd hm (Nat.not_lt_zero _)
                        | succ n ih =>
                          intro t1 κc ge gf nc ht1a ht1b hnc hBc hLc hm H locs hP hD hS ls hl
                          refine lv_iload hx hb dX1_lists_94 (lv_at hl 1 rfl) ?_
                          refine li_iconst hx hb dX1_lists_96 ?_
                          refine li_iconst hx hb dX1_lists_97 ?_
                          refine kR (va_runS (As := [.int (ii y57_0), .int (ii 0), .int (ii 4)]) (rest := []) ⟨hx, hb, hml, hown, hts⟩ (m_isIn l G ty (wD ad ty hv σ (up (up (up ς 0 ge) 1 gf) 2 (sc (nc))) κc ++ cs) y57_0 0 4 ⟨by omega, by omega⟩ ⟨by decide, by decide⟩ ⟨by decide, by decide⟩) (va_cwS 3 hts (lw_S q117 q118 q76 q119) rfl rfl rfl (by decide +kernel) ⟨Nat.le_of_ble_eq_true rfl, Nat.le_of_ble_eq_true rfl⟩) (psR hK hP hD hX) rfl rfl hl.1 rfl (lv_room (Nat.le_of_ble_eq_true rfl)) dX1_lists_98 ⟨Nat.le_of_ble_eq_true rfl, Nat.le_of_ble_eq_true rfl⟩) (fun v hv => ?_)
                          obtain ⟨z98, rfl, ⟨rfl, h98⟩ | ⟨rfl, h98⟩⟩ := hv
                          · refine li_if_eq (tgt := 143) hx hb ⟨by decide, by decide⟩ dX1_lists_101 (by decide) (fun c101 => ?_) (fun c101 => ?_)
                            · exact absurd c101 (by decide)
                            · refine lv_iload hx hb dX1_lists_104 (lv_at hl 0 rfl) ?_
                              refine lv_aload_n hx hb dX1_lists_106 rfl (lv_at hl 6 rfl) ?_
                              refine va_get (D := G) (ci := 0) (v := .ref (ad 1)) (C := RX1) (T := TX1) (N := 21) hx hb hts in_X1 hown hK hP 0 (aD_0 _ _ _ _ _ _ _) rfl 0 (by decide) (hts _ q977) (fun _ h9 => h9) rfl dX1_lists_107 ?_
                              refine va_get (D := G) (ci := 1) (v := .int (ii (σ 8 0))) (C := RX2) (T := TX2) (N := 13) hx hb hts in_X2 hown hK hP 1 (aD_1 _ _ _ _ _ _ _) rfl 4 (by decide) (hts _ q785) (fun _ h9 => h9) rfl dX1_lists_110 ?_
                              refine li_icmp_ge (tgt := 143) hx hb ⟨by omega, by omega⟩ (rgi h8a h8b) dX1_lists_113 (by decide) (fun c113 => ?_) (fun c113 => ?_)
                              · exact X94 t1 κc ge gf nc (by omega) (by omega) (by rcases hLc with ⟨q1, q2, q3⟩ | ⟨q1, q2, q3⟩; exact LI_skip q3 (by omega) (by omega) (fun x a c h => by have h1 := hfrom x h (by omega) (by omega); have h2 := lgl_to h; omega); exact LI_skip q3 (by omega) (by omega) (fun x a c h => by have h1 := hfrom x h (by omega) (by omega); have := lgl_fr h; omega)) H locs hP hD hS ls (lv_sub hl [2, 3, 4, 5, 6, 7] rfl)
                              · have hb0 : 0 ≤ y57_0 := h98.1
                                have hb4 : y57_0 ≤ 4 := h98.2
                                have hLe := LI_in hLc ⟨hb0, hb4⟩
                                refine lv_aload_n hx hb dX1_lists_116 rfl (lv_at hl 6 rfl) ?_
                                refine lv_aload_n hx hb dX1_lists_117 rfl (lv_at hl 6 rfl) ?_
                                refine va_get (D := G) (ci := 0) (v := .ref (ad 31)) (C := RX1) (T := TX1) (N := 21) hx hb hts in_X1 hown hK hP 0 (aD_0 _ _ _ _ _ _ _) rfl 4 (by decide) (hts _ q981) (fun _ h9 => h9) rfl dX1_lists_118 ?_
                                refine lv_iload_n hx hb dX1_lists_121 rfl (lv_at hl 5 rfl) ?_
                                refine li_aald (q := ad 34) hx hb hK hP 31 5 (aD_31 _ _ _ _ _ _ _) rfl (by decide) (by decide) (by decide) (rfl) dX1_lists_122 ?_
                                refine lv_iload_n hx hb dX1_lists_123 rfl (lv_at hl 4 rfl) ?_
                                refine lv_iload hx hb dX1_lists_124 (lv_at hl 2 rfl) ?_
                                refine lv_iload hx hb dX1_lists_126 (lv_at hl 1 rfl) ?_
                                refine lv_iload hx hb dX1_lists_128 (lv_at hl 0 rfl) ?_
                                refine v_tells (mi := 34) (md := ad 34) (a1 := s1) (a2 := r1) (a3 := y57_0) (a4 := t1) hx hb hml hown hts hK hP hD hX 2 (by decide) hS hA (aDk ad ty hv σ _ κc cs (by decide)) (Nat.le_of_ble_eq_true rfl) (Nat.le_of_ble_eq_true rfl) hl.1 (Nat.le_of_ble_eq_true rfl) ⟨Nat.le_of_ble_eq_true rfl, Nat.le_of_ble_eq_true rfl⟩ dX1_lists_130 (fun H locs hP hD hS => ?_)
                                rw [aDk_set ad ty hv σ _ κc cs (show 2 < 7 by decide)] at hP hD
                                refine lv_aload_n hx hb dX1_lists_133 rfl (lv_at hl 7 rfl) ?_
                                refine kM (va_runV (As := [.ref (ad 34), .ref (ad 48)]) (rest := []) ⟨hx, hb, hml, hown, hts⟩ (m_tries_2T l G ad ty hv σ (up (up (up ς 0 ge) 1 gf) 2 (sc (nc))) (setk κc 2 (s1) (r1) (y57_0) (t1)) cs hW hWT hlgT ⟨hs1a, by show s1 ≤ 7; omega, hr1a, by show r1 ≤ 1; omega, hb0, hb4, ht1a, by show t1 ≤ 4; omega⟩ ⟨hnc, by show nc < 400; omega⟩ H.size) (cwV 2 hts (lw_V q553 q555 qs21 q76 q556) rfl rfl rfl (by decide +kernel) ⟨Nat.le_of_ble_eq_true rfl, Nat.le_of_ble_eq_true rfl⟩) (pvM (r := (RX1, TX1, 21)) hK hP hD hX 0 (aD_0 _ _ _ _ _ _ _) rfl) rfl rfl hl.1 rfl (lv_room (Nat.le_of_ble_eq_true rfl)) dX1_lists_134 ⟨Nat.le_of_ble_eq_true rfl, Nat.le_of_ble_eq_true rfl⟩) hD hS hA (fun v ws1 H locs hv hP hD hS => ?_)
                                obtain ⟨gg, gh, nd, rfl, rfl, hadd⟩ := hv
                                change (mnOk σ (ς 11) (ς 12) 2 s1 r1 y57_0 t1 ∧ gg = ug ge nc (20000 + 1000 * s1 + 100 * r1 + 10 * y57_0 + t1) ∧ gh = ug gf nc (mnV σ 2 s1 y57_0 t1) ∧ nd = nc + 1) ∨ (¬ mnOk σ (ς 11) (ς 12) 2 s1 r1 y57_0 t1 ∧ gg = ge ∧ gh = gf ∧ nd = nc) at hadd
                                have hLd : LI (lgl σ (ς 11) (ς 12)) (mvV σ) gg gh nd ((20000 + 1000 * s1 + 100 * r1) + 10 * y57_0 + (t1 + 1)) := LI_mv hadd hLe (by omega) (by omega) (by omega) (by omega) (by omega) (by omega) (by omega) (by omega) (by omega) (by omega)
                                have hnd : nc ≤ nd ∧ nd ≤ nc + 1 := by
                                  rcases hadd with ⟨q1, -, -, q2⟩ | ⟨-, -, -, q2⟩
                                  · omega
                                  · omega
                                have hP : va_P G gcl (wD ad ty hv σ (up (up (up ς 0 gg) 1 gh) 2 (sc (nd))) (setk κc 2 (s1) (r1) (y57_0) (t1)) ++ cs) H := hP
                                have hD : va_D A (wD ad ty hv σ (up (up (up ς 0 gg) 1 gh) 2 (sc (nd))) (setk κc 2 (s1) (r1) (y57_0) (t1)) ++ cs) := hD
                                refine li_iinc (a := t1) (lv' := [(7, .int (ii (t1 + 1))), (6, .int (ii y57_0)), (5, .int (ii r1)), (4, .int (ii zl)), (3, .int (ii s1)), (2, .int (ii 2)), (0, .ref (ad 0)), (1, .ref (ad 48))]) hx hb dX1_lists_137 hl (k := 0) rfl (by decide) rfl (fun ls hl => ?_)
                                refine lv_goto (tgt := 94) hx hb dX1_lists_140 (by decide) ?_
                                exact ih (t1 + 1) (setk κc 2 (s1) (r1) (y57_0) (t1)) gg gh nd (by omega) (by omega) (by omega) (by omega) (.inl ⟨hb0, hb4, hLd⟩) (by omega) H locs hP hD hS ls (lv_sub hl [0, 1, 2, 3, 4, 5, 6, 7] rfl)
                          · refine li_if_eq (tgt := 143) hx hb ⟨by decide, by decide⟩ dX1_lists_101 (by decide) (fun c101 => ?_) (fun c101 => ?_)
                            · exact X94 t1 κc ge gf nc (by omega) (by omega) (by rcases hLc with ⟨q1, q2, q3⟩ | ⟨q1, q2, q3⟩; exact LI_skip q3 (by omega) (by omega) (fun x a c h => by have h1 := hfrom x h (by omega) (by omega); have h2 := lgl_to h; omega); exact LI_skip q3 (by omega) (by omega) (fun x a c h => by have h1 := hfrom x h (by omega) (by omega); have := lgl_fr h; omega)) H locs hP hD hS ls (lv_sub hl [2, 3, 4, 5, 6, 7] rfl)
                            · exact absurd c101 (by decide)
                      exact L94 _ 0 κb gc gd nb (by omega) (by omega) (by omega) (by omega) (by rcases Classical.em (0 ≤ y57_0 ∧ y57_0 ≤ 4) with e | e; exact .inl ⟨e.1, e.2, LI_skip hLb (by omega) (by omega) (fun x a c h => by have := hfrom x h (by omega) (by omega); omega)⟩; exact .inr ⟨e, rfl, hLb⟩) (Nat.lt_succ_self _) H locs hP hD hS ls (lv_sub hl [0, 1, 2, 3, 4, 5, 6, 7] rfl)
                    refine li_if_ne (tgt := 87) hx hb ⟨by omega, by omega⟩ dX1_lists_57 (by decide) (fun c57 => ?_) (fun c57 => ?_)
                    · refine lv_iload hx hb dX1_lists_87 (lv_at hl 1 rfl) ?_
                      exact J57 _ (⟨by unfold beg; omega, by omega, by omega⟩) H locs hP hD hS ls (lv_sub hl [0, 1, 2, 3, 4, 5] rfl)
                    · refine lv_iload hx hb dX1_lists_60 (lv_at hl 0 rfl) ?_
                      refine lv_aload_n hx hb dX1_lists_62 rfl (lv_at hl 4 rfl) ?_
                      refine va_get (D := G) (ci := 0) (v := .ref (ad 1)) (C := RX1) (T := TX1) (N := 21) hx hb hts in_X1 hown hK hP 0 (aD_0 _ _ _ _ _ _ _) rfl 0 (by decide) (hts _ q977) (fun _ h9 => h9) rfl dX1_lists_63 ?_
                      refine va_get (D := G) (ci := 1) (v := .int (ii (σ 10 0))) (C := RX2) (T := TX2) (N := 13) hx hb hts in_X2 hown hK hP 1 (aD_1 _ _ _ _ _ _ _) rfl 8 (by decide) (hts _ q801) (fun _ h9 => h9) rfl dX1_lists_66 ?_
                      refine li_icmp_ge (tgt := 82) hx hb ⟨by omega, by omega⟩ (rgi h10a h10b) dX1_lists_69 (by decide) (fun c69 => ?_) (fun c69 => ?_)
                      · refine li_bipush hx hb dX1_lists_82 (by decide) ?_
                        refine lv_goto (tgt := 89) hx hb dX1_lists_84 (by decide) ?_
                        exact J57 _ (⟨by unfold beg; omega, by omega, by omega⟩) H locs hP hD hS ls (lv_sub hl [0, 1, 2, 3, 4, 5] rfl)
                      · refine lv_aload_n hx hb dX1_lists_72 rfl (lv_at hl 5 rfl) ?_
                        refine va_get (D := G) (ci := 2) (v := .ref (ad 50)) (C := RX3) (T := TX3) (N := 2) hx hb hts in_X3 hown hK hP 48 (aD_48 _ _ _ _ _ _ _) rfl 1 (by decide) (hts _ q664) (fun _ h9 => h9) rfl dX1_lists_73 ?_
                        refine lv_iload hx hb dX1_lists_76 (lv_at hl 0 rfl) ?_
                        refine li_iald (g := (ς 12)) hx hb hK hP 50 0 (aD_50 _ _ _ _ _ _ _) rfl (by omega) (by omega) (by decide) dX1_lists_78 ?_
                        have r79 := hs1 r1
                        refine lv_goto (tgt := 89) hx hb dX1_lists_79 (by decide) ?_
                        exact J57 _ (⟨by unfold beg; omega, by omega, by omega⟩) H locs hP hD hS ls (lv_sub hl [0, 1, 2, 3, 4, 5] rfl)
                  · refine lv_iload hx hb dX1_lists_51 (lv_at hl 0 rfl) ?_
                    refine li_if_ne (tgt := 149) hx hb ⟨by omega, by omega⟩ dX1_lists_53 (by decide) (fun c53 => ?_) (fun c53 => ?_)
                    · exact X39 r1 κb gc gd nb (by omega) (by omega) (LI_skip hLb (by omega) (by omega) (fun x a c => lgl_rope_a h10a h10b (by omega) (by omega) (by omega) (by omega) (by omega))) H locs hP hD hS ls (lv_sub hl [2, 3, 4, 5] rfl)
                    · refine lv_iload_n hx hb dX1_lists_56 rfl (lv_at hl 2 rfl) ?_
                      have J57 : ∀ (y57_0 : Int) (_ : beg σ (ς 12) zl s1 r1 y57_0 ∧ -4 ≤ y57_0 ∧ y57_0 ≤ 5) (H : Heap) (locs : List Loc) (_ : va_P G gcl (wD ad ty hv σ (up (up (up ς 0 gc) 1 gd) 2 (sc (nb))) κb ++ cs) H) (_ : va_D A (wD ad ty hv σ (up (up (up ς 0 gc) 1 gd) 2 (sc (nb))) κb ++ cs)) (_ : va_S A s.heap H locs) (ls : Array Slot), lv_has ls 8 [(5, .int (ii r1)), (4, .int (ii zl)), (3, .int (ii s1)), (2, .int (ii 2)), (0, .ref (ad 0)), (1, .ref (ad 48))] → W p l e (rm4 4 0 0 93) s m args below meth c H locs 0 0 Q (F0 m 89 ls [.int (ii y57_0)]) := by
                        intro y57_0 hj57 H locs hP hD hS ls hl
                        refine lv_istore (lv' := [(6, .int (ii y57_0)), (5, .int (ii r1)), (4, .int (ii zl)), (3, .int (ii s1)), (2, .int (ii 2)), (0, .ref (ad 0)), (1, .ref (ad 48))]) hx hb dX1_lists_89 hl (by decide) rfl (fun ls hl => ?_)
                        have hfrom : ∀ x, lgl σ (ς 11) (ς 12) x → (20000 + 1000 * s1 + 100 * r1) ≤ x → x < (20000 + 1000 * s1 + 100 * r1) + 100 → x / 10 % 10 = y57_0 := fun x h a c => lgl_from h (k := 2) (s := s1) (r := r1) (by omega) (by omega) (by omega) hzl2 hj57.1
                        refine li_iconst hx hb dX1_lists_91 ?_
                        refine lv_istore (lv' := [(7, .int (ii 0)), (6, .int (ii y57_0)), (5, .int (ii r1)), (4, .int (ii zl)), (3, .int (ii s1)), (2, .int (ii 2)), (0, .ref (ad 0)), (1, .ref (ad 48))]) hx hb dX1_lists_92 hl (by decide) rfl (fun ls hl => ?_)
                        have X94 : ∀ (t1 : Int) (κc : mem) (ge : Int → Int) (gf : Int → Int) (nc : Int) (_ : 0 ≤ nc) (_ : nc ≤ 80 + 10 * s1 + 5 * (r1 + 1)) (_ : LI (lgl σ (ς 11) (ς 12)) (mvV σ) ge gf nc ((20000 + 1000 * s1 + 100 * r1) + 100)) (H : Heap) (locs : List Loc) (_ : va_P G gcl (wD ad ty hv σ (up (up (up ς 0 ge) 1 gf) 2 (sc (nc))) κc ++ cs) H) (_ : va_D A (wD ad ty hv σ (up (up (up ς 0 ge) 1 gf) 2 (sc (nc))) κc ++ cs)) (_ : va_S A s.heap H locs) (ls : Array Slot), lv_has ls 8 [(5, .int (ii r1)), (4, .int (ii zl)), (3, .int (ii s1)), (2, .int (ii 2)), (0, .ref (ad 0)), (1, .ref (ad 48))] → W p l e (rm4 4 0 0 93) s m args below meth c H locs 0 0 Q (F0 m 143 ls []) := by
                          intro t1 κc ge gf nc hnc hBc hLz H locs hP hD hS ls hl
                          refine li_iinc (a := r1) (lv' := [(5, .int (ii (r1 + 1))), (4, .int (ii zl)), (3, .int (ii s1)), (2, .int (ii 2)), (0, .ref (ad 0)), (1, .ref (ad 48))]) hx hb dX1_lists_143 hl (k := 0) rfl (by decide) rfl (fun ls hl => ?_)
                          refine lv_goto (tgt := 39) hx hb dX1_lists_146 (by decide) ?_
                          exact ih (r1 + 1) κc ge gf nc (by omega) (by omega) (by omega) (hBc) (by rw [show (20000 + 1000 * s1 + 100 * (r1 + 1)) = 20000 + 1000 * s1 + 100 * r1 + 100 by omega]; exact hLz) (by omega) H locs hP hD hS ls (lv_sub hl [0, 1, 2, 3, 4, 5] rfl)
                        have L94 : ∀ (n : Nat) (t1 : Int) (κc : mem) (ge : Int → Int) (gf : Int → Int) (nc : Int) (_ : 0 ≤ t1) (_ : t1 ≤ σ 8 0) (_ : 0 ≤ nc) (_ : nc ≤ 80 + 10 * s1 + 5 * r1 + t1) (_ : LQ (lgl σ (ς 11) (ς 12)) (mvV σ) ge gf nc ((20000 + 1000 * s1 + 100 * r1) + 10 * y57_0 + t1) (20000 + 1000 * s1 + 100 * r1) t1 y57_0) (_ : (5 - t1).toNat < n) (H : Heap) (locs : List Loc) (_ : va_P G gcl (wD ad ty hv σ (up (up (up ς 0 ge) 1 gf) 2 (sc (nc))) κc ++ cs) H) (_ : va_D A (wD ad ty hv σ (up (up (up ς 0 ge) 1 gf) 2 (sc (nc))) κc ++ cs)) (_ : va_S A s.heap H locs) (ls : Array Slot), lv_has ls 8 [(7, .int (ii t1)), (6, .int (ii y57_0)), (5, .int (ii r1)), (4, .int (ii zl)), (3, .int (ii s1)), (2, .int (ii 2)), (0, .ref (ad 0)), (1, .ref (ad 48))] → W p l e (rm4 4 0 0 93) s m args below meth c H locs 0 0 Q (F0 m 94 ls []) := by
                          intro n
                          induction n with
                          | zero =>
                            intro t1 κc ge gf nc ht1a ht1b hnc hBc hLc hm
                            exact absurd hm (Nat.not_lt_zero _)
                          | succ n ih =>
                            intro t1 κc ge gf nc ht1a ht1b hnc hBc hLc hm H locs hP hD hS ls hl
                            refine lv_iload hx hb dX1_lists_94 (lv_at hl 1 rfl) ?_
                            refine li_iconst hx hb dX1_lists_96 ?_
                            refine li_iconst hx hb dX1_lists_97 ?_
                            refine kR (va_runS (As := [.int (ii y57_0), .int (ii 0), .int (ii 4)]) (rest := []) ⟨hx, hb, hml, hown, hts⟩ (m_isIn l G ty (wD ad ty hv σ (up (up (up ς 0 ge) 1 gf) 2 (sc (nc))) κc ++ cs) y57_0 0 4 ⟨by omega, by omega⟩ ⟨by decide, by decide⟩ ⟨by decide, by decide⟩) (va_cwS 3 hts (lw_S q117 q118 q76 q119) rfl rfl rfl (by decide +kernel) ⟨Nat.le_of_ble_eq_true rfl, Nat.le_of_ble_eq_true rfl⟩) (psR hK hP hD hX) rfl rfl hl.1 rfl (lv_room (Nat.le_of_ble_eq_true rfl)) dX1_lists_98 ⟨Nat.le_of_ble_eq_true rfl, Nat.le_of_ble_eq_true rfl⟩) (fun v hv => ?_)
                            obtain ⟨z98, rfl, ⟨rfl, h98⟩ | ⟨rfl, h98⟩⟩ := hv
                            · refine li_if_eq (tgt := 143) hx hb ⟨by decide, by decide⟩ dX1_lists_101 (by decide) (fun c101 => ?_) (fun c101 => ?_)
                              · exact absurd c101 (by decide)
                              · refine lv_iload hx hb dX1_lists_104 (lv_at hl 0 rfl) ?_
                                refine lv_aload_n hx hb dX1_lists_106 rfl (lv_at hl 6 rfl) ?_
                                refine va_get (D := G) (ci := 0) (v := .ref (ad 1)) (C := RX1) (T := TX1) (N := 21) hx hb hts in_X1 hown hK hP 0 (aD_0 _ _ _ _ _ _ _) rfl 0 (by decide) (hts _ q977) (fun _ h9 => h9) rfl dX1_lists_107 ?_
                                refine va_get (D := G) (ci := 1) (v := .int (ii (σ 8 0))) (C := RX2) (T := TX2) (N := 13) hx hb hts in_X2 hown hK hP 1 (aD_1 _ _ _ _ _ _ _) rfl 4 (by decide) (hts _ q785) (fun _ h9 => h9) rfl dX1_lists_110 ?_
                                refine li_icmp_ge (tgt := 143) hx hb ⟨by omega, by omega⟩ (rgi h8a h8b) dX1_lists_113 (by decide) (fun c113 => ?_) (fun c113 => ?_)
                                · exact X94 t1 κc ge gf nc (by omega) (by omega) (by rcases hLc with ⟨q1, q2, q3⟩ | ⟨q1, q2, q3⟩; exact LI_skip q3 (by omega) (by omega) (fun x a c h => by have h1 := hfrom x h (by omega) (by omega); have h2 := lgl_to h; omega); exact LI_skip q3 (by omega) (by omega) (fun x a c h => by have h1 := hfrom x h (by omega) (by omega); have := lgl_fr h; omega)) H locs hP hD hS ls (lv_sub hl [2, 3, 4, 5, 6, 7] rfl)
                                · have hb0 : 0 ≤ y57_0 := h98.1
                                  have hb4 : y57_0 ≤ 4 := h98.2
                                  have hLe := LI_in hLc ⟨hb0, hb4⟩
                                  refine lv_aload_n hx hb dX1_lists_116 rfl (lv_at hl 6 rfl) ?_
                                  refine lv_aload_n hx hb dX1_lists_117 rfl (lv_at hl 6 rfl) ?_
                                  refine va_get (D := G) (ci := 0) (v := .ref (ad 31)) (C := RX1) (T := TX1) (N := 21) hx hb hts in_X1 hown hK hP 0 (aD_0 _ _ _ _ _ _ _) rfl 4 (by decide) (hts _ q981) (fun _ h9 => h9) rfl dX1_lists_118 ?_
                                  refine lv_iload_n hx hb dX1_lists_121 rfl (lv_at hl 5 rfl) ?_
                                  refine li_aald (q := ad 34) hx hb hK hP 31 5 (aD_31 _ _ _ _ _ _ _) rfl (by decide) (by decide) (by decide) (rfl) dX1_lists_122 ?_
                                  refine lv_iload_n hx hb dX1_lists_123 rfl (lv_at hl 4 rfl) ?_
                                  refine lv_iload hx hb dX1_lists_124 (lv_at hl 2 rfl) ?_
                                  refine lv_iload hx hb dX1_lists_126 (lv_at hl 1 rfl) ?_
                                  refine lv_iload hx hb dX1_lists_128 (lv_at hl 0 rfl) ?_
                                  refine v_tells (mi := 34) (md := ad 34) (a1 := s1) (a2 := r1) (a3 := y57_0) (a4 := t1) hx hb hml hown hts hK hP hD hX 2 (by decide) hS hA (aDk ad ty hv σ _ κc cs (by decide)) (Nat.le_of_ble_eq_true rfl) (Nat.le_of_ble_eq_true rfl) hl.1 (Nat.le_of_ble_eq_true rfl) ⟨Nat.le_of_ble_eq_true rfl, Nat.le_of_ble_eq_true rfl⟩ dX1_lists_130 (fun H locs hP hD hS => ?_)
                                  rw [aDk_set ad ty hv σ _ κc cs (show 2 < 7 by decide)] at hP hD
                                  refine lv_aload_n hx hb dX1_lists_133 rfl (lv_at hl 7 rfl) ?_
                                  refine kM (va_runV (As := [.ref (ad 34), .ref (ad 48)]) (rest := []) ⟨hx, hb, hml, hown, hts⟩ (m_tries_2T l G ad ty hv σ (up (up (up ς 0 ge) 1 gf) 2 (sc (nc))) (setk κc 2 (s1) (r1) (y57_0) (t1)) cs hW hWT hlgT ⟨hs1a, by show s1 ≤ 7; omega, hr1a, by show r1 ≤ 1; omega, hb0, hb4, ht1a, by show t1 ≤ 4; omega⟩ ⟨hnc, by show nc < 400; omega⟩ H.size) (cwV 2 hts (lw_V q553 q555 qs21 q76 q556) rfl rfl rfl (by decide +kernel) ⟨Nat.le_of_ble_eq_true rfl, Nat.le_of_ble_eq_true rfl⟩) (pvM (r := (RX1, TX1, 21)) hK hP hD hX 0 (aD_0 _ _ _ _ _ _ _) rfl) rfl rfl hl.1 rfl (lv_room (Nat.le_of_ble_eq_true rfl)) dX1_lists_134 ⟨Nat.le_of_ble_eq_true rfl, Nat.le_of_ble_eq_true rfl⟩) hD hS hA (fun v ws1 H locs hv hP hD hS => ?_)
                                  obtain ⟨gg, gh, nd, rfl, rfl, hadd⟩ := hv
                                  change (mnOk σ (ς 11) (ς 12) 2 s1 r1 y57_0 t1 ∧ gg = ug ge nc (20000 + 1000 * s1 + 100 * r1 + 10 * y57_0 + t1) ∧ gh = ug gf nc (mnV σ 2 s1 y57_0 t1) ∧ nd = nc + 1) ∨ (¬ mnOk σ (ς 11) (ς 12) 2 s1 r1 y57_0 t1 ∧ gg = ge ∧ gh = gf ∧ nd = nc) at hadd
                                  have hLd : LI (lgl σ (ς 11) (ς 12)) (mvV σ) gg gh nd ((20000 + 1000 * s1 + 100 * r1) + 10 * y57_0 + (t1 + 1)) := LI_mv hadd hLe (by omega) (by omega) (by omega) (by omega) (by omega) (by omega) (by omega) (by omega) (by omega) (by omega)
                                  have hnd : nc ≤ nd ∧ nd ≤ nc + 1 := by
                                    rcases hadd with ⟨q1, -, -, q2⟩ | ⟨-, -, -, q2⟩
                                    · omega
                                    · omega
                                  have hP : va_P G gcl (wD ad ty hv σ (up (up (up ς 0 gg) 1 gh) 2 (sc (nd))) (setk κc 2 (s1) (r1) (y57_0) (t1)) ++ cs) H := hP
                                  have hD : va_D A (wD ad ty hv σ (up (up (up ς 0 gg) 1 gh) 2 (sc (nd))) (setk κc 2 (s1) (r1) (y57_0) (t1)) ++ cs) := hD
                                  refine li_iinc (a := t1) (lv' := [(7, .int (ii (t1 + 1))), (6, .int (ii y57_0)), (5, .int (ii r1)), (4, .int (ii zl)), (3, .int (ii s1)), (2, .int (ii 2)), (0, .ref (ad 0)), (1, .ref (ad 48))]) hx hb dX1_lists_137 hl (k := 0) rfl (by decide) rfl (fun ls hl => ?_)
                                  refine lv_goto (tgt := 94) hx hb dX1_lists_140 (by decide) ?_
                                  exact ih (t1 + 1) (setk κc 2 (s1) (r1) (y57_0) (t1)) gg gh nd (by omega) (by omega) (by omega) (by omega) (.inl ⟨hb0, hb4, hLd⟩) (by omega) H locs hP hD hS ls (lv_sub hl [0, 1, 2, 3, 4, 5, 6, 7] rfl)
                            · refine li_if_eq (tgt := 143) hx hb ⟨by decide, by decide⟩ dX1_lists_101 (by decide) (fun c101 => ?_) (fun c101 => ?_)
                              · exact X94 t1 κc ge gf nc (by omega) (by omega) (by rcases hLc with ⟨q1, q2, q3⟩ | ⟨q1, q2, q3⟩; exact LI_skip q3 (by omega) (by omega) (fun x a c h => by have h1 := hfrom x h (by omega) (by omega); have h2 := lgl_to h; omega); exact LI_skip q3 (by omega) (by omega) (fun x a c h => by have h1 := hfrom x h (by omega) (by omega); have := lgl_fr h; omega)) H locs hP hD hS ls (lv_sub hl [2, 3, 4, 5, 6, 7] rfl)
                              · exact absurd c101 (by decide)
                        exact L94 _ 0 κb gc gd nb (by omega) (by omega) (by omega) (by omega) (by rcases Classical.em (0 ≤ y57_0 ∧ y57_0 ≤ 4) with e | e; exact .inl ⟨e.1, e.2, LI_skip hLb (by omega) (by omega) (fun x a c h => by have := hfrom x h (by omega) (by omega); omega)⟩; exact .inr ⟨e, rfl, hLb⟩) (Nat.lt_succ_self _) H locs hP hD hS ls (lv_sub hl [0, 1, 2, 3, 4, 5, 6, 7] rfl)
                      refine li_if_ne (tgt := 87) hx hb ⟨by omega, by omega⟩ dX1_lists_57 (by decide) (fun c57 => ?_) (fun c57 => ?_)
                      · refine lv_iload hx hb dX1_lists_87 (lv_at hl 1 rfl) ?_
                        exact J57 _ (⟨by unfold beg; omega, by omega, by omega⟩) H locs hP hD hS ls (lv_sub hl [0, 1, 2, 3, 4, 5] rfl)
                      · refine lv_iload hx hb dX1_lists_60 (lv_at hl 0 rfl) ?_
                        refine lv_aload_n hx hb dX1_lists_62 rfl (lv_at hl 4 rfl) ?_
                        refine va_get (D := G) (ci := 0) (v := .ref (ad 1)) (C := RX1) (T := TX1) (N := 21) hx hb hts in_X1 hown hK hP 0 (aD_0 _ _ _ _ _ _ _) rfl 0 (by decide) (hts _ q977) (fun _ h9 => h9) rfl dX1_lists_63 ?_
                        refine va_get (D := G) (ci := 1) (v := .int (ii (σ 10 0))) (C := RX2) (T := TX2) (N := 13) hx hb hts in_X2 hown hK hP 1 (aD_1 _ _ _ _ _ _ _) rfl 8 (by decide) (hts _ q801) (fun _ h9 => h9) rfl dX1_lists_66 ?_
                        refine li_icmp_ge (tgt := 82) hx hb ⟨by omega, by omega⟩ (rgi h10a h10b) dX1_lists_69 (by decide) (fun c69 => ?_) (fun c69 => ?_)
                        · refine li_bipush hx hb dX1_lists_82 (by decide) ?_
                          refine lv_goto (tgt := 89) hx hb dX1_lists_84 (by decide) ?_
                          exact J57 _ (⟨by unfold beg; omega, by omega, by omega⟩) H locs hP hD hS ls (lv_sub hl [0, 1, 2, 3, 4, 5] rfl)
                        · refine lv_aload_n hx hb dX1_lists_72 rfl (lv_at hl 5 rfl) ?_
                          refine va_get (D := G) (ci := 2) (v := .ref (ad 50)) (C := RX3) (T := TX3) (N := 2) hx hb hts in_X3 hown hK hP 48 (aD_48 _ _ _ _ _ _ _) rfl 1 (by decide) (hts _ q664) (fun _ h9 => h9) rfl dX1_lists_73 ?_
                          refine lv_iload hx hb dX1_lists_76 (lv_at hl 0 rfl) ?_
                          refine li_iald (g := (ς 12)) hx hb hK hP 50 0 (aD_50 _ _ _ _ _ _ _) rfl (by omega) (by omega) (by decide) dX1_lists_78 ?_
                          have r79 := hs1 r1
                          refine lv_goto (tgt := 89) hx hb dX1_lists_79 (by decide) ?_
                          exact J57 _ (⟨by unfold beg; omega, by omega, by omega⟩) H locs hP hD hS ls (lv_sub hl [0, 1, 2, 3, 4, 5] rfl)
              exact L39 _ 0 κa ga gb na (by omega) (by omega) (by omega) (by omega) (by rw [show (20000 + 1000 * s1 + 100 * (0 : Int)) = 20000 + 1000 * s1 by omega]; exact hLa) (Nat.lt_succ_self _) H locs hP hD hS ls (lv_sub hl [0, 1, 2, 3, 4, 5] rfl)
        exact L15 _ 0 κa ga gb na (by omega) (by omega) (by omega) (by omega) (by omega) (by first | exact LI_skip (LI_0 _ _ _ _) (by decide) (by decide) (fun x a c => lgl_0 (by omega)) | (rw [show (20000 + 1000 * (0 : Int)) = 20000 by rfl]; exact hLx)) (Nat.lt_succ_self _) H locs hP hD hS ls (lv_sub hl [0, 1, 2, 3] rfl)
    have L15 : ∀ (n : Nat) (s1 : Int) (κa : mem) (ga : Int → Int) (gb : Int → Int) (na : Int) (_ : 0 ≤ s1) (_ : s1 ≤ p2 (σ 9 0)) (_ : s1 ≤ 8) (_ : 0 ≤ na) (_ : na ≤ 0 + 10 * s1) (_ : LI (lgl σ (ς 11) (ς 12)) (mvV σ) ga gb na (10000 + 1000 * s1)) (_ : (8 - s1).toNat < n) (H : Heap) (locs : List Loc) (_ : va_P G gcl (wD ad ty hv σ (up (up (up ς 0 ga) 1 gb) 2 (sc (na))) κa ++ cs) H) (_ : va_D A (wD ad ty hv σ (up (up (up ς 0 ga) 1 gb) 2 (sc (na))) κa ++ cs)) (_ : va_S A s.heap H locs) (ls : Array Slot), lv_has ls 8 [(3, .int (ii s1)), (2, .int (ii 1)), (0, .ref (ad 0)), (1, .ref (ad 48))] → W p l e (rm4 4 0 0 93) s m args below meth c H locs 0 0 Q (F0 m 15 ls []) := by
      intro n
      induction n with
      | zero =>
        intro s1 κa ga gb na hs1a hs1b hs7 hna hBa hLa hm
        exact absurd hm (Nat.not_lt_zero _)
      | succ n ih =>
        intro s1 κa ga gb na hs1a hs1b hs7 hna hBa hLa hm H locs hP hD hS ls hl
        refine lv_iload_n hx hb dX1_lists_15 rfl (lv_at hl 0 rfl) ?_
        refine li_iconst hx hb dX1_lists_16 ?_
        refine lv_aload_n hx hb dX1_lists_17 rfl (lv_at hl 2 rfl) ?_
        refine va_get (D := G) (ci := 0) (v := .ref (ad 1)) (C := RX1) (T := TX1) (N := 21) hx hb hts in_X1 hown hK hP 0 (aD_0 _ _ _ _ _ _ _) rfl 0 (by decide) (hts _ q977) (fun _ h9 => h9) rfl dX1_lists_18 ?_
        refine va_get (D := G) (ci := 1) (v := .int (ii (σ 9 0))) (C := RX2) (T := TX2) (N := 13) hx hb hts in_X2 hown hK hP 1 (aD_1 _ _ _ _ _ _ _) rfl 6 (by decide) (hts _ q790) (fun _ h9 => h9) rfl dX1_lists_21 ?_
        refine lv_ishl hx hb dX1_lists_24 ?_
        refine li_topx (z := p2 (σ 9 0)) (ii_shl1 h9a h9b) ?_
        refine li_icmp_ge (tgt := 155) hx hb ⟨by omega, by omega⟩ ⟨by omega, by omega⟩ dX1_lists_25 (by decide) (fun c25 => ?_) (fun c25 => ?_)
        · exact X15 s1 κa ga gb na (by omega) (by omega) (LI_skip hLa (by omega) (by omega) (fun x a c => lgl_set h9a h9b (by omega) (by omega))) H locs hP hD hS ls (lv_sub hl [1, 2, 3] rfl)
        · refine lv_aload_n hx hb dX1_lists_28 rfl (lv_at hl 2 rfl) ?_
          refine lv_iload_n hx hb dX1_lists_29 rfl (lv_at hl 0 rfl) ?_
          refine lv_aload_n hx hb dX1_lists_30 rfl (lv_at hl 3 rfl) ?_
          refine kR (va_runV (As := [.int (ii s1), .ref (ad 48)]) (rest := []) ⟨hx, hb, hml, hown, hts⟩ (m_ledgeOfT l G ad ty hv σ (up (up (up ς 0 ga) 1 gb) 2 (sc (na))) κa cs s1 hW hWT ⟨by omega, by omega⟩) (cwV 2 hts (lw_V q549 q551 qs20 q76 q552) rfl rfl rfl (by decide +kernel) ⟨Nat.le_of_ble_eq_true rfl, Nat.le_of_ble_eq_true rfl⟩) (pvR (r := (RX1, TX1, 21)) hK hP hD hX 0 (aD_0 _ _ _ _ _ _ _) rfl) rfl rfl hl.1 rfl (lv_room (Nat.le_of_ble_eq_true rfl)) dX1_lists_31 ⟨Nat.le_of_ble_eq_true rfl, Nat.le_of_ble_eq_true rfl⟩) (fun v hv => ?_)
          obtain ⟨zl, rfl, hzl, hzl2⟩ := hv
          replace hzl : -4 ≤ zl ∧ zl ≤ 4 := by omega
          refine lv_istore (lv' := [(4, .int (ii zl)), (3, .int (ii s1)), (2, .int (ii 1)), (0, .ref (ad 0)), (1, .ref (ad 48))]) hx hb dX1_lists_34 hl (by decide) rfl (fun ls hl => ?_)
          refine li_iconst hx hb dX1_lists_36 ?_
          refine lv_istore (lv' := [(5, .int (ii 0)), (4, .int (ii zl)), (3, .int (ii s1)), (2, .int (ii 1)), (0, .ref (ad 0)), (1, .ref (ad 48))]) hx hb dX1_lists_37 hl (by decide) rfl (fun ls hl => ?_)
          have X39 : ∀ (r1 : Int) (κb : mem) (gc : Int → Int) (gd : Int → Int) (nb : Int) (_ : 0 ≤ nb) (_ : nb ≤ 0 + 10 * (s1 + 1)) (_ : LI (lgl σ (ς 11) (ς 12)) (mvV σ) gc gd nb (10000 + 1000 * s1 + 1000)) (H : Heap) (locs : List Loc) (_ : va_P G gcl (wD ad ty hv σ (up (up (up ς 0 gc) 1 gd) 2 (sc (nb))) κb ++ cs) H) (_ : va_D A (wD ad ty hv σ (up (up (up ς 0 gc) 1 gd) 2 (sc (nb))) κb ++ cs)) (_ : va_S A s.heap H locs) (ls : Array Slot), lv_has ls 8 [(3, .int (ii s1)), (2, .int (ii 1)), (0, .ref (ad 0)), (1, .ref (ad 48))] → W p l e (rm4 4 0 0 93) s m args below meth c H locs 0 0 Q (F0 m 149 ls []) := by
            intro r1 κb gc gd nb hnb hBb hLy H locs hP hD hS ls hl
            refine li_iinc (a := s1) (lv' := [(3, .int (ii (s1 + 1))), (2, .int (ii 1)), (0, .ref (ad 0)), (1, .ref (ad 48))]) hx hb dX1_lists_149 hl (k := 0) rfl (by decide) rfl (fun ls hl => ?_)
            refine lv_goto (tgt := 15) hx hb dX1_lists_152 (by decide) ?_
            exact ih (s1 + 1) κb gc gd nb (by omega) (by omega) (by omega) (by omega) (hBb) (by rw [show (10000 + 1000 * (s1 + 1)) = 10000 + 1000 * s1 + 1000 by omega]; exact hLy) (by omega) H locs hP hD hS ls (lv_sub hl [0, 1, 2, 3] rfl)
          have L39 : ∀ (n : Nat) (r1 : Int) (κb : mem) (gc : Int → Int) (gd : Int → Int) (nb : Int) (_ : 0 ≤ r1) (_ : r1 ≤ 2) (_ : 0 ≤ nb) (_ : nb ≤ 0 + 10 * s1 + 5 * r1) (_ : LI (lgl σ (ς 11) (ς 12)) (mvV σ) gc gd nb (10000 + 1000 * s1 + 100 * r1)) (_ : (2 - r1).toNat < n) (H : Heap) (locs : List Loc) (_ : va_P G gcl (wD ad ty hv σ (up (up (up ς 0 gc) 1 gd) 2 (sc (nb))) κb ++ cs) H) (_ : va_D A (wD ad ty hv σ (up (up (up ς 0 gc) 1 gd) 2 (sc (nb))) κb ++ cs)) (_ : va_S A s.heap H locs) (ls : Array Slot), lv_has ls 8 [(5, .int (ii r1)), (4, .int (ii zl)), (3, .int (ii s1)), (2, .int (ii 1)), (0, .ref (ad 0)), (1, .ref (ad 48))] → W p l e (rm4 4 0 0 93) s m args below meth c H locs 0 0 Q (F0 m 39 ls []) := by
            intro n
            induction n with
            | zero =>
              intro r1 κb gc gd nb hr1a hr1b hnb hBb hLb hm
              exact absurd hm (Nat.not_lt_zero _)
            | succ n ih =>
              intro r1 κb gc gd nb hr1a hr1b hnb hBb hLb hm H locs hP hD hS ls hl
              refine lv_iload hx hb dX1_lists_39 (lv_at hl 0 rfl) ?_
              refine lv_aload_n hx hb dX1_lists_41 rfl (lv_at hl 4 rfl) ?_
              refine va_get (D := G) (ci := 0) (v := .ref (ad 1)) (C := RX1) (T := TX1) (N := 21) hx hb hts in_X1 hown hK hP 0 (aD_0 _ _ _ _ _ _ _) rfl 0 (by decide) (hts _ q977) (fun _ h9 => h9) rfl dX1_lists_42 ?_
              refine va_get (D := G) (ci := 1) (v := .int (ii (σ 10 0))) (C := RX2) (T := TX2) (N := 13) hx hb hts in_X2 hown hK hP 1 (aD_1 _ _ _ _ _ _ _) rfl 8 (by decide) (hts _ q801) (fun _ h9 => h9) rfl dX1_lists_45 ?_
              refine li_icmp_lt (tgt := 56) hx hb ⟨by omega, by omega⟩ (rgi h10a h10b) dX1_lists_48 (by decide) (fun c48 => ?_) (fun c48 => ?_)
              · refine lv_iload_n hx hb dX1_lists_56 rfl (lv_at hl 2 rfl) ?_
                have J57 : ∀ (y57_0 : Int) (_ : beg σ (ς 12) zl s1 r1 y57_0 ∧ -4 ≤ y57_0 ∧ y57_0 ≤ 5) (H : Heap) (locs : List Loc) (_ : va_P G gcl (wD ad ty hv σ (up (up (up ς 0 gc) 1 gd) 2 (sc (nb))) κb ++ cs) H) (_ : va_D A (wD ad ty hv σ (up (up (up ς 0 gc) 1 gd) 2 (sc (nb))) κb ++ cs)) (_ : va_S A s.heap H locs) (ls : Array Slot), lv_has ls 8 [(5, .int (ii r1)), (4, .int (ii zl)), (3, .int (ii s1)), (2, .int (ii 1)), (0, .ref (ad 0)), (1, .ref (ad 48))] → W p l e (rm4 4 0 0 93) s m args below meth c H locs 0 0 Q (F0 m 89 ls [.int (ii y57_0)]) := by
                  intro y57_0 hj57 H locs hP hD hS ls hl
                  refine lv_istore (lv' := [(6, .int (ii y57_0)), (5, .int (ii r1)), (4, .int (ii zl)), (3, .int (ii s1)), (2, .int (ii 1)), (0, .ref (ad 0)), (1, .ref (ad 48))]) hx hb dX1_lists_89 hl (by decide) rfl (fun ls hl => ?_)
                  have hfrom : ∀ x, lgl σ (ς 11) (ς 12) x → (10000 + 1000 * s1 + 100 * r1) ≤ x → x < (10000 + 1000 * s1 + 100 * r1) + 100 → x / 10 % 10 = y57_0 := fun x h a c => lgl_from h (k := 1) (s := s1) (r := r1) (by omega) (by omega) (by omega) hzl2 hj57.1
                  refine li_iconst hx hb dX1_lists_91 ?_
                  refine lv_istore (lv' := [(7, .int (ii 0)), (6, .int (ii y57_0)), (5, .int (ii r1)), (4, .int (ii zl)), (3, .int (ii s1)), (2, .int (ii 1)), (0, .ref (ad 0)), (1, .ref (ad 48))]) hx hb dX1_lists_92 hl (by decide) rfl (fun ls hl => ?_)
                  have X94 : ∀ (t1 : Int) (κc : mem) (ge : Int → Int) (gf : Int → Int) (nc : Int) (_ : 0 ≤ nc) (_ : nc ≤ 0 + 10 * s1 + 5 * (r1 + 1)) (_ : LI (lgl σ (ς 11) (ς 12)) (mvV σ) ge gf nc ((10000 + 1000 * s1 + 100 * r1) + 100)) (H : Heap) (locs : List Loc) (_ : va_P G gcl (wD ad ty hv σ (up (up (up ς 0 ge) 1 gf) 2 (sc (nc))) κc ++ cs) H) (_ : va_D A (wD ad ty hv σ (up (up (up ς 0 ge) 1 gf) 2 (sc (nc))) κc ++ cs)) (_ : va_S A s.heap H locs) (ls : Array Slot), lv_has ls 8 [(5, .int (ii r1)), (4, .int (ii zl)), (3, .int (ii s1)), (2, .int (ii 1)), (0, .ref (ad 0)), (1, .ref (ad 48))] → W p l e (rm4 4 0 0 93) s m args below meth c H locs 0 0 Q (F0 m 143 ls []) := by
                    intro t1 κc ge gf nc hnc hBc hLz H locs hP hD hS ls hl
                    refine li_iinc (a := r1) (lv' := [(5, .int (ii (r1 + 1))), (4, .int (ii zl)), (3, .int (ii s1)), (2, .int (ii 1)), (0, .ref (ad 0)), (1, .ref (ad 48))]) hx hb dX1_lists_143 hl (k := 0) rfl (by decide) rfl (fun ls hl => ?_)
                    refine lv_goto (tgt := 39) hx hb dX1_lists_146 (by decide) ?_
                    exact ih (r1 + 1) κc ge gf nc (by omega) (by omega) (by omega) (hBc) (by rw [show (10000 + 1000 * s1 + 100 * (r1 + 1)) = 10000 + 1000 * s1 + 100 * r1 + 100 by omega]; exact hLz) (by omega) H locs hP hD hS ls (lv_sub hl [0, 1, 2, 3, 4, 5] rfl)
                  have L94 : ∀ (n : Nat) (t1 : Int) (κc : mem) (ge : Int → Int) (gf : Int → Int) (nc : Int) (_ : 0 ≤ t1) (_ : t1 ≤ σ 8 0) (_ : 0 ≤ nc) (_ : nc ≤ 0 + 10 * s1 + 5 * r1 + t1) (_ : LQ (lgl σ (ς 11) (ς 12)) (mvV σ) ge gf nc ((10000 + 1000 * s1 + 100 * r1) + 10 * y57_0 + t1) (10000 + 1000 * s1 + 100 * r1) t1 y57_0) (_ : (5 - t1).toNat < n) (H : Heap) (locs : List Loc) (_ : va_P G gcl (wD ad ty hv σ (up (up (up ς 0 ge) 1 gf) 2 (sc (nc))) κc ++ cs) H) (_ : va_D A (wD ad ty hv σ (up (up (up ς 0 ge) 1 gf) 2 (sc (nc))) κc ++ cs)) (_ : va_S A s.heap H locs) (ls : Array Slot), lv_has ls 8 [(7, .int (ii t1)), (6, .int (ii y57_0)), (5, .int (ii r1)), (4, .int (ii zl)), (3, .int (ii s1)), (2, .int (ii 1)), (0, .ref (ad 0)), (1, .ref (ad 48))] → W p l e (rm4 4 0 0 93) s m args below meth c H locs 0 0 Q (F0 m 94 ls []) := by
                    intro n
                    induction n with
                    | zero =>
                      intro t1 κc ge gf nc ht1a ht1b hnc hBc hLc hm
                      exact absurd hm (Nat.not_lt_zero _)
                    | succ n ih =>
                      intro t1 κc ge gf nc ht1a ht1b hnc hBc hLc hm H locs hP hD hS ls hl
                      refine lv_iload hx hb dX1_lists_94 (lv_at hl 1 rfl) ?_
                      refine li_iconst hx hb dX1_lists_96 ?_
                      refine li_iconst hx hb dX1_lists_97 ?_
                      refine kR (va_runS (As := [.int (ii y57_0), .int (ii 0), .int (ii 4)]) (rest := []) ⟨hx, hb, hml, hown, hts⟩ (m_isIn l G ty (wD ad ty hv σ (up (up (up ς 0 ge) 1 gf) 2 (sc (nc))) κc ++ cs) y57_0 0 4 ⟨by omega, by omega⟩ ⟨by decide, by decide⟩ ⟨by decide, by decide⟩) (va_cwS 3 hts (lw_S q117 q118 q76 q119) rfl rfl rfl (by decide +kernel) ⟨Nat.le_of_ble_eq_true rfl, Nat.le_of_ble_eq_true rfl⟩) (psR hK hP hD hX) rfl rfl hl.1 rfl (lv_room (Nat.le_of_ble_eq_true rfl)) dX1_lists_98 ⟨Nat.le_of_ble_eq_true rfl, Nat.le_of_ble_eq_true rfl⟩) (fun v hv => ?_)
                      obtain ⟨z98, rfl, ⟨rfl, h98⟩ | ⟨rfl, h98⟩⟩ := hv
                      · refine li_if_eq (tgt := 143) hx hb ⟨by decide, by decide⟩ dX1_lists_101 (by decide) (fun c101 => ?_) (fun c101 => ?_)
                        · exact absurd c101 (by decide)
                        · refine lv_iload hx hb dX1_lists_104 (lv_at hl 0 rfl) ?_
                          refine lv_aload_n hx hb dX1_lists_106 rfl (lv_at hl 6 rfl) ?_
                          refine va_get (D := G) (ci := 0) (v := .ref (ad 1)) (C := RX1) (T := TX1) (N := 21) hx hb hts in_X1 hown hK hP 0 (aD_0 _ _ _ _ _ _ _) rfl 0 (by decide) (hts _ q977) (fun _ h9 => h9) rfl dX1_lists_107 ?_
                          refine va_get (D := G) (ci := 1) (v := .int (ii (σ 8 0))) (C := RX2) (T := TX2) (N := 13) hx hb hts in_X2 hown hK hP 1 (aD_1 _ _ _ _ _ _ _) rfl 4 (by decide) (hts _ q785) (fun _ h9 => h9) rfl dX1_lists_110 ?_
                          refine li_icmp_ge (tgt := 143) hx hb ⟨by omega, by omega⟩ (rgi h8a h8b) dX1_lists_113 (by decide) (fun c113 => ?_) (fun c113 => ?_)
                          · exact X94 t1 κc ge gf nc (by omega) (by omega) (by rcases hLc with ⟨q1, q2, q3⟩ | ⟨q1, q2, q3⟩; exact LI_skip q3 (by omega) (by omega) (fun x a c h => by have h1 := hfrom x h (by omega) (by omega); have h2 := lgl_to h; omega); exact LI_skip q3 (by omega) (by omega) (fun x a c h => by have h1 := hfrom x h (by omega) (by omega); have := lgl_fr h; omega)) H locs hP hD hS ls (lv_sub hl [2, 3, 4, 5, 6, 7] rfl)
                          · have hb0 : 0 ≤ y57_0 := h98.1
                            have hb4 : y57_0 ≤ 4 := h98.2
                            have hLe := LI_in hLc ⟨hb0, hb4⟩
                            refine lv_aload_n hx hb dX1_lists_116 rfl (lv_at hl 6 rfl) ?_
                            refine lv_aload_n hx hb dX1_lists_117 rfl (lv_at hl 6 rfl) ?_
                            refine va_get (D := G) (ci := 0) (v := .ref (ad 31)) (C := RX1) (T := TX1) (N := 21) hx hb hts in_X1 hown hK hP 0 (aD_0 _ _ _ _ _ _ _) rfl 4 (by decide) (hts _ q981) (fun _ h9 => h9) rfl dX1_lists_118 ?_
                            refine lv_iload_n hx hb dX1_lists_121 rfl (lv_at hl 5 rfl) ?_
                            refine li_aald (q := ad 33) hx hb hK hP 31 5 (aD_31 _ _ _ _ _ _ _) rfl (by decide) (by decide) (by decide) (rfl) dX1_lists_122 ?_
                            refine lv_iload_n hx hb dX1_lists_123 rfl (lv_at hl 4 rfl) ?_
                            refine lv_iload hx hb dX1_lists_124 (lv_at hl 2 rfl) ?_
                            refine lv_iload hx hb dX1_lists_126 (lv_at hl 1 rfl) ?_
                            refine lv_iload hx hb dX1_lists_128 (lv_at hl 0 rfl) ?_
                            refine v_tells (mi := 33) (md := ad 33) (a1 := s1) (a2 := r1) (a3 := y57_0) (a4 := t1) hx hb hml hown hts hK hP hD hX 1 (by decide) hS hA (aDk ad ty hv σ _ κc cs (by decide)) (Nat.le_of_ble_eq_true rfl) (Nat.le_of_ble_eq_true rfl) hl.1 (Nat.le_of_ble_eq_true rfl) ⟨Nat.le_of_ble_eq_true rfl, Nat.le_of_ble_eq_true rfl⟩ dX1_lists_130 (fun H locs hP hD hS => ?_)
                            rw [aDk_set ad ty hv σ _ κc cs (show 1 < 7 by decide)] at hP hD
                            refine lv_aload_n hx hb dX1_lists_133 rfl (lv_at hl 7 rfl) ?_
                            refine kM (va_runV (As := [.ref (ad 33), .ref (ad 48)]) (rest := []) ⟨hx, hb, hml, hown, hts⟩ (m_tries_1T l G ad ty hv σ (up (up (up ς 0 ge) 1 gf) 2 (sc (nc))) (setk κc 1 (s1) (r1) (y57_0) (t1)) cs hW hWT hlgT ⟨hs1a, by show s1 ≤ 7; omega, hr1a, by show r1 ≤ 1; omega, hb0, hb4, ht1a, by show t1 ≤ 4; omega⟩ ⟨hnc, by show nc < 400; omega⟩ H.size) (cwV 2 hts (lw_V q553 q555 qs21 q76 q556) rfl rfl rfl (by decide +kernel) ⟨Nat.le_of_ble_eq_true rfl, Nat.le_of_ble_eq_true rfl⟩) (pvM (r := (RX1, TX1, 21)) hK hP hD hX 0 (aD_0 _ _ _ _ _ _ _) rfl) rfl rfl hl.1 rfl (lv_room (Nat.le_of_ble_eq_true rfl)) dX1_lists_134 ⟨Nat.le_of_ble_eq_true rfl, Nat.le_of_ble_eq_true rfl⟩) hD hS hA (fun v ws1 H locs hv hP hD hS => ?_)
                            obtain ⟨gg, gh, nd, rfl, rfl, hadd⟩ := hv
                            change (mnOk σ (ς 11) (ς 12) 1 s1 r1 y57_0 t1 ∧ gg = ug ge nc (10000 + 1000 * s1 + 100 * r1 + 10 * y57_0 + t1) ∧ gh = ug gf nc (mnV σ 1 s1 y57_0 t1) ∧ nd = nc + 1) ∨ (¬ mnOk σ (ς 11) (ς 12) 1 s1 r1 y57_0 t1 ∧ gg = ge ∧ gh = gf ∧ nd = nc) at hadd
                            have hLd : LI (lgl σ (ς 11) (ς 12)) (mvV σ) gg gh nd ((10000 + 1000 * s1 + 100 * r1) + 10 * y57_0 + (t1 + 1)) := LI_mv hadd hLe (by omega) (by omega) (by omega) (by omega) (by omega) (by omega) (by omega) (by omega) (by omega) (by omega)
                            have hnd : nc ≤ nd ∧ nd ≤ nc + 1 := by
                              rcases hadd with ⟨q1, -, -, q2⟩ | ⟨-, -, -, q2⟩
                              · omega
                              · omega
                            have hP : va_P G gcl (wD ad ty hv σ (up (up (up ς 0 gg) 1 gh) 2 (sc (nd))) (setk κc 1 (s1) (r1) (y57_0) (t1)) ++ cs) H := hP
                            have hD : va_D A (wD ad ty hv σ (up (up (up ς 0 gg) 1 gh) 2 (sc (nd))) (setk κc 1 (s1) (r1) (y57_0) (t1)) ++ cs) := hD
                            refine li_iinc (a := t1) (lv' := [(7, .int (ii (t1 + 1))), (6, .int (ii y57_0)), (5, .int (ii r1)), (4, .int (ii zl)), (3, .int (ii s1)), (2, .int (ii 1)), (0, .ref (ad 0)), (1, .ref (ad 48))]) hx hb dX1_lists_137 hl (k := 0) rfl (by decide) rfl (fun ls hl => ?_)
                            refine lv_goto (tgt := 94) hx hb dX1_lists_140 (by decide) ?_
                            exact ih (t1 + 1) (setk κc 1 (s1) (r1) (y57_0) (t1)) gg gh nd (by omega) (by omega) (by omega) (by omega) (.inl ⟨hb0, hb4, hLd⟩) (by omega) H locs hP hD hS ls (lv_sub hl [0, 1, 2, 3, 4, 5, 6, 7] rfl)
                      · refine li_if_eq (tgt := 143) hx hb ⟨by decide, by decide⟩ dX1_lists_101 (by decide) (fun c101 => ?_) (fun c101 => ?_)
                        · exact X94 t1 κc ge gf nc (by omega) (by omega) (by rcases hLc with ⟨q1, q2, q3⟩ | ⟨q1, q2, q3⟩; exact LI_skip q3 (by omega) (by omega) (fun x a c h => by have h1 := hfrom x h (by omega) (by omega); have h2 := lgl_to h; omega); exact LI_skip q3 (by omega) (by omega) (fun x a c h => by have h1 := hfrom x h (by omega) (by omega); have := lgl_fr h; omega)) H locs hP hD hS ls (lv_sub hl [2, 3, 4, 5, 6, 7] rfl)
                        · exact absurd c101 (by decide)
                  exact L94 _ 0 κb gc gd nb (by omega) (by omega) (by omega) (by omega) (by rcases Classical.em (0 ≤ y57_0 ∧ y57_0 ≤ 4) with e | e; exact .inl ⟨e.1, e.2, LI_skip hLb (by omega) (by omega) (fun x a c h => by have := hfrom x h (by omega) (by omega); omega)⟩; exact .inr ⟨e, rfl, hLb⟩) (Nat.lt_succ_self _) H locs hP hD hS ls (lv_sub hl [0, 1, 2, 3, 4, 5, 6, 7] rfl)
                refine li_if_ne (tgt := 87) hx hb ⟨by omega, by omega⟩ dX1_lists_57 (by decide) (fun c57 => ?_) (fun c57 => ?_)
                · refine lv_iload hx hb dX1_lists_87 (lv_at hl 1 rfl) ?_
                  exact J57 _ (⟨by unfold beg; omega, by omega, by omega⟩) H locs hP hD hS ls (lv_sub hl [0, 1, 2, 3, 4, 5] rfl)
                · refine lv_iload hx hb dX1_lists_60 (lv_at hl 0 rfl) ?_
                  refine lv_aload_n hx hb dX1_lists_62 rfl (lv_at hl 4 rfl) ?_
                  refine va_get (D := G) (ci := 0) (v := .ref (ad 1)) (C := RX1) (T := TX1) (N := 21) hx hb hts in_X1 hown hK hP 0 (aD_0 _ _ _ _ _ _ _) rfl 0 (by decide) (hts _ q977) (fun _ h9 => h9) rfl dX1_lists_63 ?_
                  refine va_get (D := G) (ci := 1) (v := .int (ii (σ 10 0))) (C := RX2) (T := TX2) (N := 13) hx hb hts in_X2 hown hK hP 1 (aD_1 _ _ _ _ _ _ _) rfl 8 (by decide) (hts _ q801) (fun _ h9 => h9) rfl dX1_lists_66 ?_
                  refine li_icmp_ge (tgt := 82) hx hb ⟨by omega, by omega⟩ (rgi h10a h10b) dX1_lists_69 (by decide) (fun c69 => ?_) (fun c69 => ?_)
                  · refine li_bipush hx hb dX1_lists_82 (by decide) ?_
                    refine lv_goto (tgt := 89) hx hb dX1_lists_84 (by decide) ?_
                    exact J57 _ (⟨by unfold beg; omega, by omega, by omega⟩) H locs hP hD hS ls (lv_sub hl [0, 1, 2, 3, 4, 5] rfl)
                  · refine lv_aload_n hx hb dX1_lists_72 rfl (lv_at hl 5 rfl) ?_
                    refine va_get (D := G) (ci := 2) (v := .ref (ad 50)) (C := RX3) (T := TX3) (N := 2) hx hb hts in_X3 hown hK hP 48 (aD_48 _ _ _ _ _ _ _) rfl 1 (by decide) (hts _ q664) (fun _ h9 => h9) rfl dX1_lists_73 ?_
                    refine lv_iload hx hb dX1_lists_76 (lv_at hl 0 rfl) ?_
                    refine li_iald (g := (ς 12)) hx hb hK hP 50 0 (aD_50 _ _ _ _ _ _ _) rfl (by omega) (by omega) (by decide) dX1_lists_78 ?_
                    have r79 := hs1 r1
                    refine lv_goto (tgt := 89) hx hb dX1_lists_79 (by decide) ?_
                    exact J57 _ (⟨by unfold beg; omega, by omega, by omega⟩) H locs hP hD hS ls (lv_sub hl [0, 1, 2, 3, 4, 5] rfl)
              · refine lv_iload hx hb dX1_lists_51 (lv_at hl 0 rfl) ?_
                refine li_if_ne (tgt := 149) hx hb ⟨by omega, by omega⟩ dX1_lists_53 (by decide) (fun c53 => ?_) (fun c53 => ?_)
                · exact X39 r1 κb gc gd nb (by omega) (by omega) (LI_skip hLb (by omega) (by omega) (fun x a c => lgl_rope_a h10a h10b (by omega) (by omega) (by omega) (by omega) (by omega))) H locs hP hD hS ls (lv_sub hl [2, 3, 4, 5] rfl)
                · refine lv_iload_n hx hb dX1_lists_56 rfl (lv_at hl 2 rfl) ?_
                  have J57 : ∀ (y57_0 : Int) (_ : beg σ (ς 12) zl s1 r1 y57_0 ∧ -4 ≤ y57_0 ∧ y57_0 ≤ 5) (H : Heap) (locs : List Loc) (_ : va_P G gcl (wD ad ty hv σ (up (up (up ς 0 gc) 1 gd) 2 (sc (nb))) κb ++ cs) H) (_ : va_D A (wD ad ty hv σ (up (up (up ς 0 gc) 1 gd) 2 (sc (nb))) κb ++ cs)) (_ : va_S A s.heap H locs) (ls : Array Slot), lv_has ls 8 [(5, .int (ii r1)), (4, .int (ii zl)), (3, .int (ii s1)), (2, .int (ii 1)), (0, .ref (ad 0)), (1, .ref (ad 48))] → W p l e (rm4 4 0 0 93) s m args below meth c H locs 0 0 Q (F0 m 89 ls [.int (ii y57_0)]) := by
                    intro y57_0 hj57 H locs hP hD hS ls hl
                    refine lv_istore (lv' := [(6, .int (ii y57_0)), (5, .int (ii r1)), (4, .int (ii zl)), (3, .int (ii s1)), (2, .int (ii 1)), (0, .ref (ad 0)), (1, .ref (ad 48))]) hx hb dX1_lists_89 hl (by decide) rfl (fun ls hl => ?_)
                    have hfrom : ∀ x, lgl σ (ς 11) (ς 12) x → (10000 + 1000 * s1 + 100 * r1) ≤ x → x < (10000 + 1000 * s1 + 100 * r1) + 100 → x / 10 % 10 = y57_0 := fun x h a c => lgl_from h (k := 1) (s := s1) (r := r1) (by omega) (by omega) (by omega) hzl2 hj57.1
                    refine li_iconst hx hb dX1_lists_91 ?_
                    refine lv_istore (lv' := [(7, .int (ii 0)), (6, .int (ii y57_0)), (5, .int (ii r1)), (4, .int (ii zl)), (3, .int (ii s1)), (2, .int (ii 1)), (0, .ref (ad 0)), (1, .ref (ad 48))]) hx hb dX1_lists_92 hl (by decide) rfl (fun ls hl => ?_)
                    have X94 : ∀ (t1 : Int) (κc : mem) (ge : Int → Int) (gf : Int → Int) (nc : Int) (_ : 0 ≤ nc) (_ : nc ≤ 0 + 10 * s1 + 5 * (r1 + 1)) (_ : LI (lgl σ (ς 11) (ς 12)) (mvV σ) ge gf nc ((10000 + 1000 * s1 + 100 * r1) + 100)) (H : Heap) (locs : List Loc) (_ : va_P G gcl (wD ad ty hv σ (up (up (up ς 0 ge) 1 gf) 2 (sc (nc))) κc ++ cs) H) (_ : va_D A (wD ad ty hv σ (up (up (up ς 0 ge) 1 gf) 2 (sc (nc))) κc ++ cs)) (_ : va_S A s.heap H locs) (ls : Array Slot), lv_has ls 8 [(5, .int (ii r1)), (4, .int (ii zl)), (3, .int (ii s1)), (2, .int (ii 1)), (0, .ref (ad 0)), (1, .ref (ad 48))] → W p l e (rm4 4 0 0 93) s m args below meth c H locs 0 0 Q (F0 m 143 ls []) := by
                      intro t1 κc ge gf nc hnc hBc hLz H locs hP hD hS ls hl
                      refine li_iinc (a := r1) (lv' := [(5, .int (ii (r1 + 1))), (4, .int (ii zl)), (3, .int (ii s1)), (2, .int (ii 1)), (0, .ref (ad 0)), (1, .ref (ad 48))]) hx hb dX1_lists_143 hl (k := 0) rfl (by decide) rfl (fun ls hl => ?_)
                      refine lv_goto (tgt := 39) hx hb dX1_lists_146 (by decide) ?_
                      exact ih (r1 + 1) κc ge gf nc (by omega) (by omega) (by omega) (hBc) (by rw [show (10000 + 1000 * s1 + 100 * (r1 + 1)) = 10000 + 1000 * s1 + 100 * r1 + 100 by omega]; exact hLz) (by omega) H locs hP hD hS ls (lv_sub hl [0, 1, 2, 3, 4, 5] rfl)
                    have L94 : ∀ (n : Nat) (t1 : Int) (κc : mem) (ge : Int → Int) (gf : Int → Int) (nc : Int) (_ : 0 ≤ t1) (_ : t1 ≤ σ 8 0) (_ : 0 ≤ nc) (_ : nc ≤ 0 + 10 * s1 + 5 * r1 + t1) (_ : LQ (lgl σ (ς 11) (ς 12)) (mvV σ) ge gf nc ((10000 + 1000 * s1 + 100 * r1) + 10 * y57_0 + t1) (10000 + 1000 * s1 + 100 * r1) t1 y57_0) (_ : (5 - t1).toNat < n) (H : Heap) (locs : List Loc) (_ : va_P G gcl (wD ad ty hv σ (up (up (up ς 0 ge) 1 gf) 2 (sc (nc))) κc ++ cs) H) (_ : va_D A (wD ad ty hv σ (up (up (up ς 0 ge) 1 gf) 2 (sc (nc))) κc ++ cs)) (_ : va_S A s.heap H locs) (ls : Array Slot), lv_has ls 8 [(7, .int (ii t1)), (6, .int (ii y57_0)), (5, .int (ii r1)), (4, .int (ii zl)), (3, .int (ii s1)), (2, .int (ii 1)), (0, .ref (ad 0)), (1, .ref (ad 48))] → W p l e (rm4 4 0 0 93) s m args below meth c H locs 0 0 Q (F0 m 94 ls []) := by
                      intro n
                      induction n with
                      | zero =>
                        intro t1 κc ge gf nc ht1a ht1b hnc hBc hLc hm
                        exact absurd hm (Nat.not_lt_zero _)
                      | succ n ih =>
                        intro t1 κc ge gf nc ht1a ht1b hnc hBc hLc hm H locs hP hD hS ls hl
                        refine lv_iload hx hb dX1_lists_94 (lv_at hl 1 rfl) ?_
                        refine li_iconst hx hb dX1_lists_96 ?_
                        refine li_iconst hx hb dX1_lists_97 ?_
                        refine kR (va_runS (As := [.int (ii y57_0), .int (ii 0), .int (ii 4)]) (rest := []) ⟨hx, hb, hml, hown, hts⟩ (m_isIn l G ty (wD ad ty hv σ (up (up (up ς 0 ge) 1 gf) 2 (sc (nc))) κc ++ cs) y57_0 0 4 ⟨by omega, by omega⟩ ⟨by decide, by decide⟩ ⟨by decide, by decide⟩) (va_cwS 3 hts (lw_S q117 q118 q76 q119) rfl rfl rfl (by decide +kernel) ⟨Nat.le_of_ble_eq_true rfl, Nat.le_of_ble_eq_true rfl⟩) (psR hK hP hD hX) rfl rfl hl.1 rfl (lv_room (Nat.le_of_ble_eq_true rfl)) dX1_lists_98 ⟨Nat.le_of_ble_eq_true rfl, Nat.le_of_ble_eq_true rfl⟩) (fun v hv => ?_)
                        obtain ⟨z98, rfl, ⟨rfl, h98⟩ | ⟨rfl, h98⟩⟩ := hv
                        · refine li_if_eq (tgt := 143) hx hb ⟨by decide, by decide⟩ dX1_lists_101 (by decide) (fun c101 => ?_) (fun c101 => ?_)
                          · exact absurd c101 (by decide)
                          · refine lv_iload hx hb dX1_lists_104 (lv_at hl 0 rfl) ?_
                            refine lv_aload_n hx hb dX1_lists_106 rfl (lv_at hl 6 rfl) ?_
                            refine va_get (D := G) (ci := 0) (v := .ref (ad 1)) (C := RX1) (T := TX1) (N := 21) hx hb hts in_X1 hown hK hP 0 (aD_0 _ _ _ _ _ _ _) rfl 0 (by decide) (hts _ q977) (fun _ h9 => h9) rfl dX1_lists_107 ?_
                            refine va_get (D := G) (ci := 1) (v := .int (ii (σ 8 0))) (C := RX2) (T := TX2) (N := 13) hx hb hts in_X2 hown hK hP 1 (aD_1 _ _ _ _ _ _ _) rfl 4 (by decide) (hts _ q785) (fun _ h9 => h9) rfl dX1_lists_110 ?_
                            refine li_icmp_ge (tgt := 143) hx hb ⟨by omega, by omega⟩ (rgi h8a h8b) dX1_lists_113 (by decide) (fun c113 => ?_) (fun c113 => ?_)
                            · exact X94 t1 κc ge gf nc (by omega) (by omega) (by rcases hLc with ⟨q1, q2, q3⟩ | ⟨q1, q2, q3⟩; exact LI_skip q3 (by omega) (by omega) (fun x a c h => by have h1 := hfrom x h (by omega) (by omega); have h2 := lgl_to h; omega); exact LI_skip q3 (by omega) (by omega) (fun x a c h => by have h1 := hfrom x h (by omega) (by omega); have := lgl_fr h; omega)) H locs hP hD hS ls (lv_sub hl [2, 3, 4, 5, 6, 7] rfl)
                            · have hb0 : 0 ≤ y57_0 := h98.1
                              have hb4 : y57_0 ≤ 4 := h98.2
                              have hLe := LI_in hLc ⟨hb0, hb4⟩
                              refine lv_aload_n hx hb dX1_lists_116 rfl (lv_at hl 6 rfl) ?_
                              refine lv_aload_n hx hb dX1_lists_117 rfl (lv_at hl 6 rfl) ?_
                              refine va_get (D := G) (ci := 0) (v := .ref (ad 31)) (C := RX1) (T := TX1) (N := 21) hx hb hts in_X1 hown hK hP 0 (aD_0 _ _ _ _ _ _ _) rfl 4 (by decide) (hts _ q981) (fun _ h9 => h9) rfl dX1_lists_118 ?_
                              refine lv_iload_n hx hb dX1_lists_121 rfl (lv_at hl 5 rfl) ?_
                              refine li_aald (q := ad 33) hx hb hK hP 31 5 (aD_31 _ _ _ _ _ _ _) rfl (by decide) (by decide) (by decide) (rfl) dX1_lists_122 ?_
                              refine lv_iload_n hx hb dX1_lists_123 rfl (lv_at hl 4 rfl) ?_
                              refine lv_iload hx hb dX1_lists_124 (lv_at hl 2 rfl) ?_
                              refine lv_iload hx hb dX1_lists_126 (lv_at hl 1 rfl) ?_
                              refine lv_iload hx hb dX1_lists_128 (lv_at hl 0 rfl) ?_
                              refine v_tells (mi := 33) (md := ad 33) (a1 := s1) (a2 := r1) (a3 := y57_0) (a4 := t1) hx hb hml hown hts hK hP hD hX 1 (by decide) hS hA (aDk ad ty hv σ _ κc cs (by decide)) (Nat.le_of_ble_eq_true rfl) (Nat.le_of_ble_eq_true rfl) hl.1 (Nat.le_of_ble_eq_true rfl) ⟨Nat.le_of_ble_eq_true rfl, Nat.le_of_ble_eq_true rfl⟩ dX1_lists_130 (fun H locs hP hD hS => ?_)
                              rw [aDk_set ad ty hv σ _ κc cs (show 1 < 7 by decide)] at hP hD
                              refine lv_aload_n hx hb dX1_lists_133 rfl (lv_at hl 7 rfl) ?_
                              refine kM (va_runV (As := [.ref (ad 33), .ref (ad 48)]) (rest := []) ⟨hx, hb, hml, hown, hts⟩ (m_tries_1T l G ad ty hv σ (up (up (up ς 0 ge) 1 gf) 2 (sc (nc))) (setk κc 1 (s1) (r1) (y57_0) (t1)) cs hW hWT hlgT ⟨hs1a, by show s1 ≤ 7; omega, hr1a, by show r1 ≤ 1; omega, hb0, hb4, ht1a, by show t1 ≤ 4; omega⟩ ⟨hnc, by show nc < 400; omega⟩ H.size) (cwV 2 hts (lw_V q553 q555 qs21 q76 q556) rfl rfl rfl (by decide +kernel) ⟨Nat.le_of_ble_eq_true rfl, Nat.le_of_ble_eq_true rfl⟩) (pvM (r := (RX1, TX1, 21)) hK hP hD hX 0 (aD_0 _ _ _ _ _ _ _) rfl) rfl rfl hl.1 rfl (lv_room (Nat.le_of_ble_eq_true rfl)) dX1_lists_134 ⟨Nat.le_of_ble_eq_true rfl, Nat.le_of_ble_eq_true rfl⟩) hD hS hA (fun v ws1 H locs hv hP hD hS => ?_)
                              obtain ⟨gg, gh, nd, rfl, rfl, hadd⟩ := hv
                              change (mnOk σ (ς 11) (ς 12) 1 s1 r1 y57_0 t1 ∧ gg = ug ge nc (10000 + 1000 * s1 + 100 * r1 + 10 * y57_0 + t1) ∧ gh = ug gf nc (mnV σ 1 s1 y57_0 t1) ∧ nd = nc + 1) ∨ (¬ mnOk σ (ς 11) (ς 12) 1 s1 r1 y57_0 t1 ∧ gg = ge ∧ gh = gf ∧ nd = nc) at hadd
                              have hLd : LI (lgl σ (ς 11) (ς 12)) (mvV σ) gg gh nd ((10000 + 1000 * s1 + 100 * r1) + 10 * y57_0 + (t1 + 1)) := LI_mv hadd hLe (by omega) (by omega) (by omega) (by omega) (by omega) (by omega) (by omega) (by omega) (by omega) (by omega)
                              have hnd : nc ≤ nd ∧ nd ≤ nc + 1 := by
                                rcases hadd with ⟨q1, -, -, q2⟩ | ⟨-, -, -, q2⟩
                                · omega
                                · omega
                              have hP : va_P G gcl (wD ad ty hv σ (up (up (up ς 0 gg) 1 gh) 2 (sc (nd))) (setk κc 1 (s1) (r1) (y57_0) (t1)) ++ cs) H := hP
                              have hD : va_D A (wD ad ty hv σ (up (up (up ς 0 gg) 1 gh) 2 (sc (nd))) (setk κc 1 (s1) (r1) (y57_0) (t1)) ++ cs) := hD
                              refine li_iinc (a := t1) (lv' := [(7, .int (ii (t1 + 1))), (6, .int (ii y57_0)), (5, .int (ii r1)), (4, .int (ii zl)), (3, .int (ii s1)), (2, .int (ii 1)), (0, .ref (ad 0)), (1, .ref (ad 48))]) hx hb dX1_lists_137 hl (k := 0) rfl (by decide) rfl (fun ls hl => ?_)
                              refine lv_goto (tgt := 94) hx hb dX1_lists_140 (by decide) ?_
                              exact ih (t1 + 1) (setk κc 1 (s1) (r1) (y57_0) (t1)) gg gh nd (by omega) (by omega) (by omega) (by omega) (.inl ⟨hb0, hb4, hLd⟩) (by omega) H locs hP hD hS ls (lv_sub hl [0, 1, 2, 3, 4, 5, 6, 7] rfl)
                        · refine li_if_eq (tgt := 143) hx hb ⟨by decide, by decide⟩ dX1_lists_101 (by decide) (fun c101 => ?_) (fun c101 => ?_)
                          · exact X94 t1 κc ge gf nc (by omega) (by omega) (by rcases hLc with ⟨q1, q2, q3⟩ | ⟨q1, q2, q3⟩; exact LI_skip q3 (by omega) (by omega) (fun x a c h => by have h1 := hfrom x h (by omega) (by omega); have h2 := lgl_to h; omega); exact LI_skip q3 (by omega) (by omega) (fun x a c h => by have h1 := hfrom x h (by omega) (by omega); have := lgl_fr h; omega)) H locs hP hD hS ls (lv_sub hl [2, 3, 4, 5, 6, 7] rfl)
                          · exact absurd c101 (by decide)
                    exact L94 _ 0 κb gc gd nb (by omega) (by omega) (by omega) (by omega) (by rcases Classical.em (0 ≤ y57_0 ∧ y57_0 ≤ 4) with e | e; exact .inl ⟨e.1, e.2, LI_skip hLb (by omega) (by omega) (fun x a c h => by have := hfrom x h (by omega) (by omega); omega)⟩; exact .inr ⟨e, rfl, hLb⟩) (Nat.lt_succ_self _) H locs hP hD hS ls (lv_sub hl [0, 1, 2, 3, 4, 5, 6, 7] rfl)
                  refine li_if_ne (tgt := 87) hx hb ⟨by omega, by omega⟩ dX1_lists_57 (by decide) (fun c57 => ?_) (fun c57 => ?_)
                  · refine lv_iload hx hb dX1_lists_87 (lv_at hl 1 rfl) ?_
                    exact J57 _ (⟨by unfold beg; omega, by omega, by omega⟩) H locs hP hD hS ls (lv_sub hl [0, 1, 2, 3, 4, 5] rfl)
                  · refine lv_iload hx hb dX1_lists_60 (lv_at hl 0 rfl) ?_
                    refine lv_aload_n hx hb dX1_lists_62 rfl (lv_at hl 4 rfl) ?_
                    refine va_get (D := G) (ci := 0) (v := .ref (ad 1)) (C := RX1) (T := TX1) (N := 21) hx hb hts in_X1 hown hK hP 0 (aD_0 _ _ _ _ _ _ _) rfl 0 (by decide) (hts _ q977) (fun _ h9 => h9) rfl dX1_lists_63 ?_
                    refine va_get (D := G) (ci := 1) (v := .int (ii (σ 10 0))) (C := RX2) (T := TX2) (N := 13) hx hb hts in_X2 hown hK hP 1 (aD_1 _ _ _ _ _ _ _) rfl 8 (by decide) (hts _ q801) (fun _ h9 => h9) rfl dX1_lists_66 ?_
                    refine li_icmp_ge (tgt := 82) hx hb ⟨by omega, by omega⟩ (rgi h10a h10b) dX1_lists_69 (by decide) (fun c69 => ?_) (fun c69 => ?_)
                    · refine li_bipush hx hb dX1_lists_82 (by decide) ?_
                      refine lv_goto (tgt := 89) hx hb dX1_lists_84 (by decide) ?_
                      exact J57 _ (⟨by unfold beg; omega, by omega, by omega⟩) H locs hP hD hS ls (lv_sub hl [0, 1, 2, 3, 4, 5] rfl)
                    · refine lv_aload_n hx hb dX1_lists_72 rfl (lv_at hl 5 rfl) ?_
                      refine va_get (D := G) (ci := 2) (v := .ref (ad 50)) (C := RX3) (T := TX3) (N := 2) hx hb hts in_X3 hown hK hP 48 (aD_48 _ _ _ _ _ _ _) rfl 1 (by decide) (hts _ q664) (fun _ h9 => h9) rfl dX1_lists_73 ?_
                      refine lv_iload hx hb dX1_lists_76 (lv_at hl 0 rfl) ?_
                      refine li_iald (g := (ς 12)) hx hb hK hP 50 0 (aD_50 _ _ _ _ _ _ _) rfl (by omega) (by omega) (by decide) dX1_lists_78 ?_
                      have r79 := hs1 r1
                      refine lv_goto (tgt := 89) hx hb dX1_lists_79 (by decide) ?_
                      exact J57 _ (⟨by unfold beg; omega, by omega, by omega⟩) H locs hP hD hS ls (lv_sub hl [0, 1, 2, 3, 4, 5] rfl)
          exact L39 _ 0 κa ga gb na (by omega) (by omega) (by omega) (by omega) (by rw [show (10000 + 1000 * s1 + 100 * (0 : Int)) = 10000 + 1000 * s1 by omega]; exact hLa) (Nat.lt_succ_self _) H locs hP hD hS ls (lv_sub hl [0, 1, 2, 3, 4, 5] rfl)
    exact L15 _ 0 κ (ς 0) (ς 1) 0 (by omega) (by omega) (by omega) (by omega) (by omega) (by first | exact LI_skip (LI_0 _ _ _ _) (by decide) (by decide) (fun x a c => lgl_0 (by omega)) | (rw [show (10000 + 1000 * (0 : Int)) = 10000 by rfl]; exact hLx)) (Nat.lt_succ_self _) H locs hP hD hS ls (lv_sub hl [0, 1, 2, 3] rfl)
set_option maxHeartbeats 4000000 in
theorem m_listsN (l : Launch) (G : va_G) (ad : Nat → Nat) (ty : Nat → ClassId) (hv : Nat → Option Nat) (σ ς κ : mem) (cs : va_W)  (hW : wfF σ) (hWT : wfS (σ 6) (σ 7)) (hlgT : (0 < σ 9 0 → 0 ≤ σ 6 0 ∧ σ 6 0 < σ 8 0) ∧ (1 < σ 9 0 → 0 ≤ σ 6 1 ∧ σ 6 1 < σ 8 0) ∧ (2 < σ 9 0 → 0 ≤ σ 6 2 ∧ σ 6 2 < σ 8 0)) : cM l yX1_lists (ws_ yX1_lists cX1_lists 8 none) (rm4 4 0 0 93) G ty (wD ad ty hv σ ς κ ++ cs) [.ref (ad 0), .ref (ad 8)] 0 0 (fun r W' => ∃ (g0 g1 : Int → Int) (n : Int) (κ' : mem), r = none ∧ W' = wD ad ty hv σ (up (up (up ς 0 g0) 1 g1) 2 (sc n)) κ' ++ cs ∧ LI (lgl σ (σ 6) (σ 7)) (mvV σ) g0 g1 n 70000 ∧ 0 ≤ n ∧ n ≤ 330) := by
  refine cM.of (by decide) (Nat.le_of_ble_eq_true rfl) ?_
  intro p e s m args below meth c A Q H locs hQ hx hb hr hml hown hlk hname hts hK hP hD hS hA hX ls hl
  have hl : lv_has ls 8 [(0, .ref (ad 0)), (1, .ref (ad 8))] := hl
  obtain ⟨hw0, hw1, hw2, hw3, hw4, hw5, h8a, h8b, h9a, h9b, h10a, h10b⟩ := id hW
  obtain ⟨hs0, hs1⟩ := id hWT
  have hp2 : 1 ≤ p2 (σ 9 0) ∧ p2 (σ 9 0) ≤ 8 := by have := p2_b h9a h9b; omega
  refine lv_aload_n hx hb dX1_lists_0 rfl (lv_at hl 0 rfl) ?_
  refine li_iconst hx hb dX1_lists_1 ?_
  refine va_put (D := G) (ci := 0) (v := .int (ii 0)) (ty := .int) (C := RX1) (T := TX1) (N := 21) hx hb hts in_X1 tyX1 tyX1_ok nmX1 hown hK hP hD hS 0 (aD_0 _ _ _ _ _ _ _) rfl 7 (by decide) (hts _ q984) (fun _ h9 => h9) rfl (tyX1_ok 7 (by decide)) rfl rfl (Nat.le_of_ble_eq_true rfl) dX1_lists_2 (fun H locs hP hD hS => ?_)
  have hP : va_P G gcl (wD ad ty hv σ (up ς 2 (sc (0))) κ ++ cs) H := hP
  have hD : va_D A (wD ad ty hv σ (up ς 2 (sc (0))) κ ++ cs) := hD
  refine li_iconst hx hb dX1_lists_5 ?_
  refine lv_istore_n (lv' := [(2, .int (ii 1)), (0, .ref (ad 0)), (1, .ref (ad 8))]) hx hb dX1_lists_6 rfl hl (by decide) rfl (fun ls hl => ?_)
  refine lv_iload_n hx hb dX1_lists_7 rfl (lv_at hl 0 rfl) ?_
  refine li_bipush hx hb dX1_lists_8 (by decide) ?_
  refine li_icmp_ge (tgt := 161) hx hb ⟨by decide, by decide⟩ ⟨by decide, by decide⟩ dX1_lists_10 (by decide) (fun c10 => ?_) (fun c10 => ?_)
  · exact absurd c10 (by decide)
  · refine li_iconst hx hb dX1_lists_13 ?_
    refine lv_istore_n (lv' := [(3, .int (ii 0)), (2, .int (ii 1)), (0, .ref (ad 0)), (1, .ref (ad 8))]) hx hb dX1_lists_14 rfl hl (by decide) rfl (fun ls hl => ?_)
    have X15 : ∀ (s1 : Int) (κa : mem) (ga : Int → Int) (gb : Int → Int) (na : Int) (_ : 0 ≤ na) (_ : na ≤ 80) (_ : LI (lgl σ (σ 6) (σ 7)) (mvV σ) ga gb na 20000) (H : Heap) (locs : List Loc) (_ : va_P G gcl (wD ad ty hv σ (up (up (up ς 0 ga) 1 gb) 2 (sc (na))) κa ++ cs) H) (_ : va_D A (wD ad ty hv σ (up (up (up ς 0 ga) 1 gb) 2 (sc (na))) κa ++ cs)) (_ : va_S A s.heap H locs) (ls : Array Slot), lv_has ls 8 [(2, .int (ii 1)), (0, .ref (ad 0)), (1, .ref (ad 8))] → W p l e (rm4 4 0 0 93) s m args below meth c H locs 0 0 Q (F0 m 155 ls []) := by
      intro s1 κa ga gb na hna hBa hLx H locs hP hD hS ls hl
      refine li_iinc (a := 1) (lv' := [(2, .int (ii 2)), (0, .ref (ad 0)), (1, .ref (ad 8))]) hx hb dX1_lists_155 hl (k := 0) rfl (by decide) rfl (fun ls hl => ?_)
      refine lv_goto (tgt := 7) hx hb dX1_lists_158 (by decide) ?_
      refine lv_iload_n hx hb dX1_lists_7 rfl (lv_at hl 0 rfl) ?_
      refine li_bipush hx hb dX1_lists_8 (by decide) ?_
      refine li_icmp_ge (tgt := 161) hx hb ⟨by decide, by decide⟩ ⟨by decide, by decide⟩ dX1_lists_10 (by decide) (fun c10 => ?_) (fun c10 => ?_)
      · exact absurd c10 (by decide)
      · refine li_iconst hx hb dX1_lists_13 ?_
        refine lv_istore_n (lv' := [(3, .int (ii 0)), (2, .int (ii 2)), (0, .ref (ad 0)), (1, .ref (ad 8))]) hx hb dX1_lists_14 rfl hl (by decide) rfl (fun ls hl => ?_)
        have X15 : ∀ (s1 : Int) (κa : mem) (ga : Int → Int) (gb : Int → Int) (na : Int) (_ : 0 ≤ na) (_ : na ≤ 160) (_ : LI (lgl σ (σ 6) (σ 7)) (mvV σ) ga gb na 30000) (H : Heap) (locs : List Loc) (_ : va_P G gcl (wD ad ty hv σ (up (up (up ς 0 ga) 1 gb) 2 (sc (na))) κa ++ cs) H) (_ : va_D A (wD ad ty hv σ (up (up (up ς 0 ga) 1 gb) 2 (sc (na))) κa ++ cs)) (_ : va_S A s.heap H locs) (ls : Array Slot), lv_has ls 8 [(2, .int (ii 2)), (0, .ref (ad 0)), (1, .ref (ad 8))] → W p l e (rm4 4 0 0 93) s m args below meth c H locs 0 0 Q (F0 m 155 ls []) := by
          intro s1 κa ga gb na hna hBa hLx H locs hP hD hS ls hl
          refine li_iinc (a := 2) (lv' := [(2, .int (ii 3)), (0, .ref (ad 0)), (1, .ref (ad 8))]) hx hb dX1_lists_155 hl (k := 0) rfl (by decide) rfl (fun ls hl => ?_)
          refine lv_goto (tgt := 7) hx hb dX1_lists_158 (by decide) ?_
          refine lv_iload_n hx hb dX1_lists_7 rfl (lv_at hl 0 rfl) ?_
          refine li_bipush hx hb dX1_lists_8 (by decide) ?_
          refine li_icmp_ge (tgt := 161) hx hb ⟨by decide, by decide⟩ ⟨by decide, by decide⟩ dX1_lists_10 (by decide) (fun c10 => ?_) (fun c10 => ?_)
          · exact absurd c10 (by decide)
          · refine li_iconst hx hb dX1_lists_13 ?_
            refine lv_istore_n (lv' := [(3, .int (ii 0)), (2, .int (ii 3)), (0, .ref (ad 0)), (1, .ref (ad 8))]) hx hb dX1_lists_14 rfl hl (by decide) rfl (fun ls hl => ?_)
            have X15 : ∀ (s1 : Int) (κa : mem) (ga : Int → Int) (gb : Int → Int) (na : Int) (_ : 0 ≤ na) (_ : na ≤ 200) (_ : LI (lgl σ (σ 6) (σ 7)) (mvV σ) ga gb na 40000) (H : Heap) (locs : List Loc) (_ : va_P G gcl (wD ad ty hv σ (up (up (up ς 0 ga) 1 gb) 2 (sc (na))) κa ++ cs) H) (_ : va_D A (wD ad ty hv σ (up (up (up ς 0 ga) 1 gb) 2 (sc (na))) κa ++ cs)) (_ : va_S A s.heap H locs) (ls : Array Slot), lv_has ls 8 [(2, .int (ii 3)), (0, .ref (ad 0)), (1, .ref (ad 8))] → W p l e (rm4 4 0 0 93) s m args below meth c H locs 0 0 Q (F0 m 155 ls []) := by
              intro s1 κa ga gb na hna hBa hLx H locs hP hD hS ls hl
              refine li_iinc (a := 3) (lv' := [(2, .int (ii 4)), (0, .ref (ad 0)), (1, .ref (ad 8))]) hx hb dX1_lists_155 hl (k := 0) rfl (by decide) rfl (fun ls hl => ?_)
              refine lv_goto (tgt := 7) hx hb dX1_lists_158 (by decide) ?_
              refine lv_iload_n hx hb dX1_lists_7 rfl (lv_at hl 0 rfl) ?_
              refine li_bipush hx hb dX1_lists_8 (by decide) ?_
              refine li_icmp_ge (tgt := 161) hx hb ⟨by decide, by decide⟩ ⟨by decide, by decide⟩ dX1_lists_10 (by decide) (fun c10 => ?_) (fun c10 => ?_)
              · exact absurd c10 (by decide)
              · refine li_iconst hx hb dX1_lists_13 ?_
                refine lv_istore_n (lv' := [(3, .int (ii 0)), (2, .int (ii 4)), (0, .ref (ad 0)), (1, .ref (ad 8))]) hx hb dX1_lists_14 rfl hl (by decide) rfl (fun ls hl => ?_)
                have X15 : ∀ (s1 : Int) (κa : mem) (ga : Int → Int) (gb : Int → Int) (na : Int) (_ : 0 ≤ na) (_ : na ≤ 280) (_ : LI (lgl σ (σ 6) (σ 7)) (mvV σ) ga gb na 50000) (H : Heap) (locs : List Loc) (_ : va_P G gcl (wD ad ty hv σ (up (up (up ς 0 ga) 1 gb) 2 (sc (na))) κa ++ cs) H) (_ : va_D A (wD ad ty hv σ (up (up (up ς 0 ga) 1 gb) 2 (sc (na))) κa ++ cs)) (_ : va_S A s.heap H locs) (ls : Array Slot), lv_has ls 8 [(2, .int (ii 4)), (0, .ref (ad 0)), (1, .ref (ad 8))] → W p l e (rm4 4 0 0 93) s m args below meth c H locs 0 0 Q (F0 m 155 ls []) := by
                  intro s1 κa ga gb na hna hBa hLx H locs hP hD hS ls hl
                  refine li_iinc (a := 4) (lv' := [(2, .int (ii 5)), (0, .ref (ad 0)), (1, .ref (ad 8))]) hx hb dX1_lists_155 hl (k := 0) rfl (by decide) rfl (fun ls hl => ?_)
                  refine lv_goto (tgt := 7) hx hb dX1_lists_158 (by decide) ?_
                  refine lv_iload_n hx hb dX1_lists_7 rfl (lv_at hl 0 rfl) ?_
                  refine li_bipush hx hb dX1_lists_8 (by decide) ?_
                  refine li_icmp_ge (tgt := 161) hx hb ⟨by decide, by decide⟩ ⟨by decide, by decide⟩ dX1_lists_10 (by decide) (fun c10 => ?_) (fun c10 => ?_)
                  · exact absurd c10 (by decide)
                  · refine li_iconst hx hb dX1_lists_13 ?_
                    refine lv_istore_n (lv' := [(3, .int (ii 0)), (2, .int (ii 5)), (0, .ref (ad 0)), (1, .ref (ad 8))]) hx hb dX1_lists_14 rfl hl (by decide) rfl (fun ls hl => ?_)
                    have X15 : ∀ (s1 : Int) (κa : mem) (ga : Int → Int) (gb : Int → Int) (na : Int) (_ : 0 ≤ na) (_ : na ≤ 320) (_ : LI (lgl σ (σ 6) (σ 7)) (mvV σ) ga gb na 60000) (H : Heap) (locs : List Loc) (_ : va_P G gcl (wD ad ty hv σ (up (up (up ς 0 ga) 1 gb) 2 (sc (na))) κa ++ cs) H) (_ : va_D A (wD ad ty hv σ (up (up (up ς 0 ga) 1 gb) 2 (sc (na))) κa ++ cs)) (_ : va_S A s.heap H locs) (ls : Array Slot), lv_has ls 8 [(2, .int (ii 5)), (0, .ref (ad 0)), (1, .ref (ad 8))] → W p l e (rm4 4 0 0 93) s m args below meth c H locs 0 0 Q (F0 m 155 ls []) := by
                      intro s1 κa ga gb na hna hBa hLx H locs hP hD hS ls hl
                      refine li_iinc (a := 5) (lv' := [(2, .int (ii 6)), (0, .ref (ad 0)), (1, .ref (ad 8))]) hx hb dX1_lists_155 hl (k := 0) rfl (by decide) rfl (fun ls hl => ?_)
                      refine lv_goto (tgt := 7) hx hb dX1_lists_158 (by decide) ?_
                      refine lv_iload_n hx hb dX1_lists_7 rfl (lv_at hl 0 rfl) ?_
                      refine li_bipush hx hb dX1_lists_8 (by decide) ?_
                      refine li_icmp_ge (tgt := 161) hx hb ⟨by decide, by decide⟩ ⟨by decide, by decide⟩ dX1_lists_10 (by decide) (fun c10 => ?_) (fun c10 => ?_)
                      · exact absurd c10 (by decide)
                      · refine li_iconst hx hb dX1_lists_13 ?_
                        refine lv_istore_n (lv' := [(3, .int (ii 0)), (2, .int (ii 6)), (0, .ref (ad 0)), (1, .ref (ad 8))]) hx hb dX1_lists_14 rfl hl (by decide) rfl (fun ls hl => ?_)
                        have X15 : ∀ (s1 : Int) (κa : mem) (ga : Int → Int) (gb : Int → Int) (na : Int) (_ : 0 ≤ na) (_ : na ≤ 330) (_ : LI (lgl σ (σ 6) (σ 7)) (mvV σ) ga gb na 70000) (H : Heap) (locs : List Loc) (_ : va_P G gcl (wD ad ty hv σ (up (up (up ς 0 ga) 1 gb) 2 (sc (na))) κa ++ cs) H) (_ : va_D A (wD ad ty hv σ (up (up (up ς 0 ga) 1 gb) 2 (sc (na))) κa ++ cs)) (_ : va_S A s.heap H locs) (ls : Array Slot), lv_has ls 8 [(2, .int (ii 6)), (0, .ref (ad 0)), (1, .ref (ad 8))] → W p l e (rm4 4 0 0 93) s m args below meth c H locs 0 0 Q (F0 m 155 ls []) := by
                          intro s1 κa ga gb na hna hBa hLx H locs hP hD hS ls hl
                          refine li_iinc (a := 6) (lv' := [(2, .int (ii 7)), (0, .ref (ad 0)), (1, .ref (ad 8))]) hx hb dX1_lists_155 hl (k := 0) rfl (by decide) rfl (fun ls hl => ?_)
                          refine lv_goto (tgt := 7) hx hb dX1_lists_158 (by decide) ?_
                          refine lv_iload_n hx hb dX1_lists_7 rfl (lv_at hl 0 rfl) ?_
                          refine li_bipush hx hb dX1_lists_8 (by decide) ?_
                          refine li_icmp_ge (tgt := 161) hx hb ⟨by decide, by decide⟩ ⟨by decide, by decide⟩ dX1_lists_10 (by decide) (fun c10 => ?_) (fun c10 => ?_)
                          · exact eMv hQ hx hb hr hlk hP hD hS (Nat.le_of_ble_eq_true rfl) (Nat.le_of_ble_eq_true rfl) dX1_lists_161 (⟨_, _, _, _, rfl, rfl, hLx, hna, hBa⟩)
                          · exact absurd c10 (by decide)
                        have L15 : ∀ (n : Nat) (s1 : Int) (κa : mem) (ga : Int → Int) (gb : Int → Int) (na : Int) (_ : 0 ≤ s1) (_ : s1 ≤ p2 (σ 9 0)) (_ : s1 ≤ 8) (_ : 0 ≤ na) (_ : na ≤ ib s1 320 330) (_ : LI (lgl σ (σ 6) (σ 7)) (mvV σ) ga gb na (60000 + 1000 * s1)) (_ : (8 - s1).toNat < n) (H : Heap) (locs : List Loc) (_ : va_P G gcl (wD ad ty hv σ (up (up (up ς 0 ga) 1 gb) 2 (sc (na))) κa ++ cs) H) (_ : va_D A (wD ad ty hv σ (up (up (up ς 0 ga) 1 gb) 2 (sc (na))) κa ++ cs)) (_ : va_S A s.heap H locs) (ls : Array Slot), lv_has ls 8 [(3, .int (ii s1)), (2, .int (ii 6)), (0, .ref (ad 0)), (1, .ref (ad 8))] → W p l e (rm4 4 0 0 93) s m args below meth c H locs 0 0 Q (F0 m 15 ls []) := by
                          intro n
                          induction n with
                          | zero =>
                            intro s1 κa ga gb na hs1a hs1b hs7 hna hBa hLa hm
                            exact absurd hm (Nat.not_lt_zero _)
                          | succ n ih =>
                            intro s1 κa ga gb na hs1a hs1b hs7 hna hBa hLa hm H locs hP hD hS ls hl
                            refine lv_iload_n hx hb dX1_lists_15 rfl (lv_at hl 0 rfl) ?_
                            refine li_iconst hx hb dX1_lists_16 ?_
                            refine lv_aload_n hx hb dX1_lists_17 rfl (lv_at hl 2 rfl) ?_
                            refine va_get (D := G) (ci := 0) (v := .ref (ad 1)) (C := RX1) (T := TX1) (N := 21) hx hb hts in_X1 hown hK hP 0 (aD_0 _ _ _ _ _ _ _) rfl 0 (by decide) (hts _ q977) (fun _ h9 => h9) rfl dX1_lists_18 ?_
                            refine va_get (D := G) (ci := 1) (v := .int (ii (σ 9 0))) (C := RX2) (T := TX2) (N := 13) hx hb hts in_X2 hown hK hP 1 (aD_1 _ _ _ _ _ _ _) rfl 6 (by decide) (hts _ q790) (fun _ h9 => h9) rfl dX1_lists_21 ?_
                            refine lv_ishl hx hb dX1_lists_24 ?_
                            refine li_topx (z := p2 (σ 9 0)) (ii_shl1 h9a h9b) ?_
                            refine li_icmp_ge (tgt := 155) hx hb ⟨by omega, by omega⟩ ⟨by omega, by omega⟩ dX1_lists_25 (by decide) (fun c25 => ?_) (fun c25 => ?_)
                            · exact X15 s1 κa ga gb na (by omega) (by have := ib_c s1 320 330; omega) (LI_skip hLa (by omega) (by omega) (fun x a c => lgl_set h9a h9b (by omega) (by omega))) H locs hP hD hS ls (lv_sub hl [1, 2, 3] rfl)
                            · refine lv_aload_n hx hb dX1_lists_28 rfl (lv_at hl 2 rfl) ?_
                              refine lv_iload_n hx hb dX1_lists_29 rfl (lv_at hl 0 rfl) ?_
                              refine lv_aload_n hx hb dX1_lists_30 rfl (lv_at hl 3 rfl) ?_
                              refine kR (va_runV (As := [.int (ii s1), .ref (ad 8)]) (rest := []) ⟨hx, hb, hml, hown, hts⟩ (m_ledgeOfN l G ad ty hv σ (up (up (up ς 0 ga) 1 gb) 2 (sc (na))) κa cs s1 hW hWT ⟨by omega, by omega⟩) (cwV 2 hts (lw_V q549 q551 qs20 q76 q552) rfl rfl rfl (by decide +kernel) ⟨Nat.le_of_ble_eq_true rfl, Nat.le_of_ble_eq_true rfl⟩) (pvR (r := (RX1, TX1, 21)) hK hP hD hX 0 (aD_0 _ _ _ _ _ _ _) rfl) rfl rfl hl.1 rfl (lv_room (Nat.le_of_ble_eq_true rfl)) dX1_lists_31 ⟨Nat.le_of_ble_eq_true rfl, Nat.le_of_ble_eq_true rfl⟩) (fun v hv => ?_)
                              obtain ⟨zl, rfl, hzl, hzl2⟩ := hv
                              replace hzl : -4 ≤ zl ∧ zl ≤ 4 := by omega
                              refine lv_istore (lv' := [(4, .int (ii zl)), (3, .int (ii s1)), (2, .int (ii 6)), (0, .ref (ad 0)), (1, .ref (ad 8))]) hx hb dX1_lists_34 hl (by decide) rfl (fun ls hl => ?_)
                              refine li_iconst hx hb dX1_lists_36 ?_
                              refine lv_istore (lv' := [(5, .int (ii 0)), (4, .int (ii zl)), (3, .int (ii s1)), (2, .int (ii 6)), (0, .ref (ad 0)), (1, .ref (ad 8))]) hx hb dX1_lists_37 hl (by decide) rfl (fun ls hl => ?_)
                              have X39 : ∀ (r1 : Int) (κb : mem) (gc : Int → Int) (gd : Int → Int) (nb : Int) (_ : 0 ≤ nb) (_ : nb ≤ ib (s1 + 1) 320 330) (_ : LI (lgl σ (σ 6) (σ 7)) (mvV σ) gc gd nb (60000 + 1000 * s1 + 1000)) (H : Heap) (locs : List Loc) (_ : va_P G gcl (wD ad ty hv σ (up (up (up ς 0 gc) 1 gd) 2 (sc (nb))) κb ++ cs) H) (_ : va_D A (wD ad ty hv σ (up (up (up ς 0 gc) 1 gd) 2 (sc (nb))) κb ++ cs)) (_ : va_S A s.heap H locs) (ls : Array Slot), lv_has ls 8 [(3, .int (ii s1)), (2, .int (ii 6)), (0, .ref (ad 0)), (1, .ref (ad 8))] → W p l e (rm4 4 0 0 93) s m args below meth c H locs 0 0 Q (F0 m 149 ls []) := by
                                intro r1 κb gc gd nb hnb hBb hLy H locs hP hD hS ls hl
                                refine li_iinc (a := s1) (lv' := [(3, .int (ii (s1 + 1))), (2, .int (ii 6)), (0, .ref (ad 0)), (1, .ref (ad 8))]) hx hb dX1_lists_149 hl (k := 0) rfl (by decide) rfl (fun ls hl => ?_)
                                refine lv_goto (tgt := 15) hx hb dX1_lists_152 (by decide) ?_
                                exact ih (s1 + 1) κb gc gd nb (by omega) (by omega) (by omega) (by omega) (hBb) (by rw [show (60000 + 1000 * (s1 + 1)) = 60000 + 1000 * s1 + 1000 by omega]; exact hLy) (by omega) H locs hP hD hS ls (lv_sub hl [0, 1, 2, 3] rfl)
                              have L39 : ∀ (n : Nat) (r1 : Int) (κb : mem) (gc : Int → Int) (gd : Int → Int) (nb : Int) (_ : 0 ≤ r1) (_ : r1 ≤ 2) (_ : 0 ≤ nb) (_ : nb ≤ ib s1 (320 + 5 * r1) 330) (_ : LI (lgl σ (σ 6) (σ 7)) (mvV σ) gc gd nb (60000 + 1000 * s1 + 100 * r1)) (_ : (2 - r1).toNat < n) (H : Heap) (locs : List Loc) (_ : va_P G gcl (wD ad ty hv σ (up (up (up ς 0 gc) 1 gd) 2 (sc (nb))) κb ++ cs) H) (_ : va_D A (wD ad ty hv σ (up (up (up ς 0 gc) 1 gd) 2 (sc (nb))) κb ++ cs)) (_ : va_S A s.heap H locs) (ls : Array Slot), lv_has ls 8 [(5, .int (ii r1)), (4, .int (ii zl)), (3, .int (ii s1)), (2, .int (ii 6)), (0, .ref (ad 0)), (1, .ref (ad 8))] → W p l e (rm4 4 0 0 93) s m args below meth c H locs 0 0 Q (F0 m 39 ls []) := by
                                intro n
                                induction n with
                                | zero =>
                                  intro r1 κb gc gd nb hr1a hr1b hnb hBb hLb hm
                                  exact absurd hm (Nat.not_lt_zero _)
                                | succ n ih =>
                                  intro r1 κb gc gd nb hr1a hr1b hnb hBb hLb hm H locs hP hD hS ls hl
                                  refine lv_iload hx hb dX1_lists_39 (lv_at hl 0 rfl) ?_
                                  refine lv_aload_n hx hb dX1_lists_41 rfl (lv_at hl 4 rfl) ?_
                                  refine va_get (D := G) (ci := 0) (v := .ref (ad 1)) (C := RX1) (T := TX1) (N := 21) hx hb hts in_X1 hown hK hP 0 (aD_0 _ _ _ _ _ _ _) rfl 0 (by decide) (hts _ q977) (fun _ h9 => h9) rfl dX1_lists_42 ?_
                                  refine va_get (D := G) (ci := 1) (v := .int (ii (σ 10 0))) (C := RX2) (T := TX2) (N := 13) hx hb hts in_X2 hown hK hP 1 (aD_1 _ _ _ _ _ _ _) rfl 8 (by decide) (hts _ q801) (fun _ h9 => h9) rfl dX1_lists_45 ?_
                                  refine li_icmp_lt (tgt := 56) hx hb ⟨by omega, by omega⟩ (rgi h10a h10b) dX1_lists_48 (by decide) (fun c48 => ?_) (fun c48 => ?_)
                                  · refine lv_iload_n hx hb dX1_lists_56 rfl (lv_at hl 2 rfl) ?_
                                    have J57 : ∀ (y57_0 : Int) (_ : beg σ (σ 7) zl s1 r1 y57_0 ∧ -4 ≤ y57_0 ∧ y57_0 ≤ 5) (H : Heap) (locs : List Loc) (_ : va_P G gcl (wD ad ty hv σ (up (up (up ς 0 gc) 1 gd) 2 (sc (nb))) κb ++ cs) H) (_ : va_D A (wD ad ty hv σ (up (up (up ς 0 gc) 1 gd) 2 (sc (nb))) κb ++ cs)) (_ : va_S A s.heap H locs) (ls : Array Slot), lv_has ls 8 [(5, .int (ii r1)), (4, .int (ii zl)), (3, .int (ii s1)), (2, .int (ii 6)), (0, .ref (ad 0)), (1, .ref (ad 8))] → W p l e (rm4 4 0 0 93) s m args below meth c H locs 0 0 Q (F0 m 89 ls [.int (ii y57_0)]) := by
                                      intro y57_0 hj57 H locs hP hD hS ls hl
                                      refine lv_istore (lv' := [(6, .int (ii y57_0)), (5, .int (ii r1)), (4, .int (ii zl)), (3, .int (ii s1)), (2, .int (ii 6)), (0, .ref (ad 0)), (1, .ref (ad 8))]) hx hb dX1_lists_89 hl (by decide) rfl (fun ls hl => ?_)
                                      have hfrom : ∀ x, lgl σ (σ 6) (σ 7) x → (60000 + 1000 * s1 + 100 * r1) ≤ x → x < (60000 + 1000 * s1 + 100 * r1) + 100 → x / 10 % 10 = y57_0 := fun x h a c => lgl_from h (k := 6) (s := s1) (r := r1) (by omega) (by omega) (by omega) hzl2 hj57.1
                                      refine li_iconst hx hb dX1_lists_91 ?_
                                      refine lv_istore (lv' := [(7, .int (ii 0)), (6, .int (ii y57_0)), (5, .int (ii r1)), (4, .int (ii zl)), (3, .int (ii s1)), (2, .int (ii 6)), (0, .ref (ad 0)), (1, .ref (ad 8))]) hx hb dX1_lists_92 hl (by decide) rfl (fun ls hl => ?_)
                                      have X94 : ∀ (t1 : Int) (κc : mem) (ge : Int → Int) (gf : Int → Int) (nc : Int) (_ : 0 ≤ nc) (_ : nc ≤ ib s1 (320 + 5 * (r1 + 1)) 330) (_ : LI (lgl σ (σ 6) (σ 7)) (mvV σ) ge gf nc ((60000 + 1000 * s1 + 100 * r1) + 100)) (H : Heap) (locs : List Loc) (_ : va_P G gcl (wD ad ty hv σ (up (up (up ς 0 ge) 1 gf) 2 (sc (nc))) κc ++ cs) H) (_ : va_D A (wD ad ty hv σ (up (up (up ς 0 ge) 1 gf) 2 (sc (nc))) κc ++ cs)) (_ : va_S A s.heap H locs) (ls : Array Slot), lv_has ls 8 [(5, .int (ii r1)), (4, .int (ii zl)), (3, .int (ii s1)), (2, .int (ii 6)), (0, .ref (ad 0)), (1, .ref (ad 8))] → W p l e (rm4 4 0 0 93) s m args below meth c H locs 0 0 Q (F0 m 143 ls []) := by
                                        intro t1 κc ge gf nc hnc hBc hLz H locs hP hD hS ls hl
                                        refine li_iinc (a := r1) (lv' := [(5, .int (ii (r1 + 1))), (4, .int (ii zl)), (3, .int (ii s1)), (2, .int (ii 6)), (0, .ref (ad 0)), (1, .ref (ad 8))]) hx hb dX1_lists_143 hl (k := 0) rfl (by decide) rfl (fun ls hl => ?_)
                                        refine lv_goto (tgt := 39) hx hb dX1_lists_146 (by decide) ?_
                                        exact ih (r1 + 1) κc ge gf nc (by omega) (by omega) (by omega) (hBc) (by rw [show (60000 + 1000 * s1 + 100 * (r1 + 1)) = 60000 + 1000 * s1 + 100 * r1 + 100 by omega]; exact hLz) (by omega) H locs hP hD hS ls (lv_sub hl [0, 1, 2, 3, 4, 5] rfl)
                                      have L94 : ∀ (n : Nat) (t1 : Int) (κc : mem) (ge : Int → Int) (gf : Int → Int) (nc : Int) (_ : 0 ≤ t1) (_ : t1 ≤ σ 8 0) (_ : 0 ≤ nc) (_ : nc ≤ ib s1 (320 + 5 * r1 + t1) 330) (_ : LQ (lgl σ (σ 6) (σ 7)) (mvV σ) ge gf nc ((60000 + 1000 * s1 + 100 * r1) + 10 * y57_0 + t1) (60000 + 1000 * s1 + 100 * r1) t1 y57_0) (_ : (5 - t1).toNat < n) (H : Heap) (locs : List Loc) (_ : va_P G gcl (wD ad ty hv σ (up (up (up ς 0 ge) 1 gf) 2 (sc (nc))) κc ++ cs) H) (_ : va_D A (wD ad ty hv σ (up (up (up ς 0 ge) 1 gf) 2 (sc (nc))) κc ++ cs)) (_ : va_S A s.heap H locs) (ls : Array Slot), lv_has ls 8 [(7, .int (ii t1)), (6, .int (ii y57_0)), (5, .int (ii r1)), (4, .int (ii zl)), (3, .int (ii s1)), (2, .int (ii 6)), (0, .ref (ad 0)), (1, .ref (ad 8))] → W p l e (rm4 4 0 0 93) s m args below meth c H locs 0 0 Q (F0 m 94 ls []) := by
                                        intro n
                                        induction n with
                                        | zero =>
                                          intro t1 κc ge gf nc ht1a ht1b hnc hBc hLc hm
                                          exact absurd hm (Nat.not_lt_zero _)
                                        | succ n ih =>
                                          intro t1 κc ge gf nc ht1a ht1b hnc hBc hLc hm H locs hP hD hS ls hl
                                          refine lv_iload hx hb dX1_lists_94 (lv_at hl 1 rfl) ?_
                                          refine li_iconst hx hb dX1_lists_96 ?_
                                          refine li_iconst hx hb dX1_lists_97 ?_
                                          refine kR (va_runS (As := [.int (ii y57_0), .int (ii 0), .int (ii 4)]) (rest := []) ⟨hx, hb, hml, hown, hts⟩ (m_isIn l G ty (wD ad ty hv σ (up (up (up ς 0 ge) 1 gf) 2 (sc (nc))) κc ++ cs) y57_0 0 4 ⟨by omega, by omega⟩ ⟨by decide, by decide⟩ ⟨by decide, by decide⟩) (va_cwS 3 hts (lw_S q117 q118 q76 q119) rfl rfl rfl (by decide +kernel) ⟨Nat.le_of_ble_eq_true rfl, Nat.le_of_ble_eq_true rfl⟩) (psR hK hP hD hX) rfl rfl hl.1 rfl (lv_room (Nat.le_of_ble_eq_true rfl)) dX1_lists_98 ⟨Nat.le_of_ble_eq_true rfl, Nat.le_of_ble_eq_true rfl⟩) (fun v hv => ?_)
                                          obtain ⟨z98, rfl, ⟨rfl, h98⟩ | ⟨rfl, h98⟩⟩ := hv
                                          · refine li_if_eq (tgt := 143) hx hb ⟨by decide, by decide⟩ dX1_lists_101 (by decide) (fun c101 => ?_) (fun c101 => ?_)
                                            · exact absurd c101 (by decide)
                                            · refine lv_iload hx hb dX1_lists_104 (lv_at hl 0 rfl) ?_
                                              refine lv_aload_n hx hb dX1_lists_106 rfl (lv_at hl 6 rfl) ?_
                                              refine va_get (D := G) (ci := 0) (v := .ref (ad 1)) (C := RX1) (T := TX1) (N := 21) hx hb hts in_X1 hown hK hP 0 (aD_0 _ _ _ _ _ _ _) rfl 0 (by decide) (hts _ q977) (fun _ h9 => h9) rfl dX1_lists_107 ?_
                                              refine va_get (D := G) (ci := 1) (v := .int (ii (σ 8 0))) (C := RX2) (T := TX2) (N := 13) hx hb hts in_X2 hown hK hP 1 (aD_1 _ _ _ _ _ _ _) rfl 4 (by decide) (hts _ q785) (fun _ h9 => h9) rfl dX1_lists_110 ?_
                                              refine li_icmp_ge (tgt := 143) hx hb ⟨by omega, by omega⟩ (rgi h8a h8b) dX1_lists_113 (by decide) (fun c113 => ?_) (fun c113 => ?_)
                                              · exact X94 t1 κc ge gf nc (by omega) (by have := ib_c s1 (320 + 5 * r1 + t1) 330; have := ib_c s1 (320 + 5 * (r1 + 1)) 330; omega) (by rcases hLc with ⟨q1, q2, q3⟩ | ⟨q1, q2, q3⟩; exact LI_skip q3 (by omega) (by omega) (fun x a c h => by have h1 := hfrom x h (by omega) (by omega); have h2 := lgl_to h; omega); exact LI_skip q3 (by omega) (by omega) (fun x a c h => by have h1 := hfrom x h (by omega) (by omega); have := lgl_fr h; omega)) H locs hP hD hS ls (lv_sub hl [2, 3, 4, 5, 6, 7] rfl)
                                              · have hb0 : 0 ≤ y57_0 := h98.1
                                                have hb4 : y57_0 ≤ 4 := h98.2
                                                have hLe := LI_in hLc ⟨hb0, hb4⟩
                                                refine lv_aload_n hx hb dX1_lists_116 rfl (lv_at hl 6 rfl) ?_
                                                refine lv_aload_n hx hb dX1_lists_117 rfl (lv_at hl 6 rfl) ?_
                                                refine va_get (D := G) (ci := 0) (v := .ref (ad 31)) (C := RX1) (T := TX1) (N := 21) hx hb hts in_X1 hown hK hP 0 (aD_0 _ _ _ _ _ _ _) rfl 4 (by decide) (hts _ q981) (fun _ h9 => h9) rfl dX1_lists_118 ?_
                                                refine lv_iload_n hx hb dX1_lists_121 rfl (lv_at hl 5 rfl) ?_
                                                refine li_aald (q := ad 38) hx hb hK hP 31 5 (aD_31 _ _ _ _ _ _ _) rfl (by decide) (by decide) (by decide) (rfl) dX1_lists_122 ?_
                                                refine lv_iload_n hx hb dX1_lists_123 rfl (lv_at hl 4 rfl) ?_
                                                refine lv_iload hx hb dX1_lists_124 (lv_at hl 2 rfl) ?_
                                                refine lv_iload hx hb dX1_lists_126 (lv_at hl 1 rfl) ?_
                                                refine lv_iload hx hb dX1_lists_128 (lv_at hl 0 rfl) ?_
                                                refine v_tells (mi := 38) (md := ad 38) (a1 := s1) (a2 := r1) (a3 := y57_0) (a4 := t1) hx hb hml hown hts hK hP hD hX 6 (by decide) hS hA (aDk ad ty hv σ _ κc cs (by decide)) (Nat.le_of_ble_eq_true rfl) (Nat.le_of_ble_eq_true rfl) hl.1 (Nat.le_of_ble_eq_true rfl) ⟨Nat.le_of_ble_eq_true rfl, Nat.le_of_ble_eq_true rfl⟩ dX1_lists_130 (fun H locs hP hD hS => ?_)
                                                rw [aDk_set ad ty hv σ _ κc cs (show 6 < 7 by decide)] at hP hD
                                                refine lv_aload_n hx hb dX1_lists_133 rfl (lv_at hl 7 rfl) ?_
                                                refine kM (va_runV (As := [.ref (ad 38), .ref (ad 8)]) (rest := []) ⟨hx, hb, hml, hown, hts⟩ (m_tries_6N l G ad ty hv σ (up (up (up ς 0 ge) 1 gf) 2 (sc (nc))) (setk κc 6 (s1) (r1) (y57_0) (t1)) cs hW hWT hlgT ⟨hs1a, by show s1 ≤ 7; omega, hr1a, by show r1 ≤ 1; omega, hb0, hb4, ht1a, by show t1 ≤ 4; omega⟩ ⟨hnc, by show nc < 400; have := ib_c s1 (320 + 5 * r1 + t1) 330; omega⟩ H.size) (cwV 2 hts (lw_V q553 q555 qs21 q76 q556) rfl rfl rfl (by decide +kernel) ⟨Nat.le_of_ble_eq_true rfl, Nat.le_of_ble_eq_true rfl⟩) (pvM (r := (RX1, TX1, 21)) hK hP hD hX 0 (aD_0 _ _ _ _ _ _ _) rfl) rfl rfl hl.1 rfl (lv_room (Nat.le_of_ble_eq_true rfl)) dX1_lists_134 ⟨Nat.le_of_ble_eq_true rfl, Nat.le_of_ble_eq_true rfl⟩) hD hS hA (fun v ws1 H locs hv hP hD hS => ?_)
                                                obtain ⟨gg, gh, nd, rfl, rfl, hadd⟩ := hv
                                                change (mnOk σ (σ 6) (σ 7) 6 s1 r1 y57_0 t1 ∧ gg = ug ge nc (60000 + 1000 * s1 + 100 * r1 + 10 * y57_0 + t1) ∧ gh = ug gf nc (mnV σ 6 s1 y57_0 t1) ∧ nd = nc + 1) ∨ (¬ mnOk σ (σ 6) (σ 7) 6 s1 r1 y57_0 t1 ∧ gg = ge ∧ gh = gf ∧ nd = nc) at hadd
                                                have hLd : LI (lgl σ (σ 6) (σ 7)) (mvV σ) gg gh nd ((60000 + 1000 * s1 + 100 * r1) + 10 * y57_0 + (t1 + 1)) := LI_mv hadd hLe (by omega) (by omega) (by omega) (by omega) (by omega) (by omega) (by omega) (by omega) (by omega) (by omega)
                                                have hnd : nc ≤ nd ∧ nd ≤ nc + 1 ∧ (nd = nc ∨ s1 = 0) := by
                                                  rcases hadd with ⟨q1, -, -, q2⟩ | ⟨-, -, -, q2⟩
                                                  · have q3 := (mnOk_6.mp q1).1; omega
                                                  · omega
                                                have hP : va_P G gcl (wD ad ty hv σ (up (up (up ς 0 gg) 1 gh) 2 (sc (nd))) (setk κc 6 (s1) (r1) (y57_0) (t1)) ++ cs) H := hP
                                                have hD : va_D A (wD ad ty hv σ (up (up (up ς 0 gg) 1 gh) 2 (sc (nd))) (setk κc 6 (s1) (r1) (y57_0) (t1)) ++ cs) := hD
                                                refine li_iinc (a := t1) (lv' := [(7, .int (ii (t1 + 1))), (6, .int (ii y57_0)), (5, .int (ii r1)), (4, .int (ii zl)), (3, .int (ii s1)), (2, .int (ii 6)), (0, .ref (ad 0)), (1, .ref (ad 8))]) hx hb dX1_lists_137 hl (k := 0) rfl (by decide) rfl (fun ls hl => ?_)
                                                refine lv_goto (tgt := 94) hx hb dX1_lists_140 (by decide) ?_
                                                exact ih (t1 + 1) (setk κc 6 (s1) (r1) (y57_0) (t1)) gg gh nd (by omega) (by omega) (by omega) (by have := ib_c s1 (320 + 5 * r1 + t1) 330; have := ib_c s1 (320 + 5 * r1 + (t1 + 1)) 330; omega) (.inl ⟨hb0, hb4, hLd⟩) (by omega) H locs hP hD hS ls (lv_sub hl [0, 1, 2, 3, 4, 5, 6, 7] rfl)
                                          · refine li_if_eq (tgt := 143) hx hb ⟨by decide, by decide⟩ dX1_lists_101 (by decide) (fun c101 => ?_) (fun c101 => ?_)
                                            · exact X94 t1 κc ge gf nc (by omega) (by have := ib_c s1 (320 + 5 * r1 + t1) 330; have := ib_c s1 (320 + 5 * (r1 + 1)) 330; omega) (by rcases hLc with ⟨q1, q2, q3⟩ | ⟨q1, q2, q3⟩; exact LI_skip q3 (by omega) (by omega) (fun x a c h => by have h1 := hfrom x h (by omega) (by omega); have h2 := lgl_to h; omega); exact LI_skip q3 (by omega) (by omega) (fun x a c h => by have h1 := hfrom x h (by omega) (by omega); have := lgl_fr h; omega)) H locs hP hD hS ls (lv_sub hl [2, 3, 4, 5, 6, 7] rfl)
                                            · exact absurd c101 (by decide)
                                      exact L94 _ 0 κb gc gd nb (by omega) (by omega) (by omega) (by have := ib_c s1 (320 + 5 * r1 + 0) 330; have := ib_c s1 (320 + 5 * r1) 330; omega) (by rcases Classical.em (0 ≤ y57_0 ∧ y57_0 ≤ 4) with e | e; exact .inl ⟨e.1, e.2, LI_skip hLb (by omega) (by omega) (fun x a c h => by have := hfrom x h (by omega) (by omega); omega)⟩; exact .inr ⟨e, rfl, hLb⟩) (Nat.lt_succ_self _) H locs hP hD hS ls (lv_sub hl [0, 1, 2, 3, 4, 5, 6, 7] rfl)
                                    refine li_if_ne (tgt := 87) hx hb ⟨by omega, by omega⟩ dX1_lists_57 (by decide) (fun c57 => ?_) (fun c57 => ?_)
                                    · refine lv_iload hx hb dX1_lists_87 (lv_at hl 1 rfl) ?_
                                      exact J57 _ (⟨by unfold beg; omega, by omega, by omega⟩) H locs hP hD hS ls (lv_sub hl [0, 1, 2, 3, 4, 5] rfl)
                                    · refine lv_iload hx hb dX1_lists_60 (lv_at hl 0 rfl) ?_
                                      refine lv_aload_n hx hb dX1_lists_62 rfl (lv_at hl 4 rfl) ?_
                                      refine va_get (D := G) (ci := 0) (v := .ref (ad 1)) (C := RX1) (T := TX1) (N := 21) hx hb hts in_X1 hown hK hP 0 (aD_0 _ _ _ _ _ _ _) rfl 0 (by decide) (hts _ q977) (fun _ h9 => h9) rfl dX1_lists_63 ?_
                                      refine va_get (D := G) (ci := 1) (v := .int (ii (σ 10 0))) (C := RX2) (T := TX2) (N := 13) hx hb hts in_X2 hown hK hP 1 (aD_1 _ _ _ _ _ _ _) rfl 8 (by decide) (hts _ q801) (fun _ h9 => h9) rfl dX1_lists_66 ?_
                                      refine li_icmp_ge (tgt := 82) hx hb ⟨by omega, by omega⟩ (rgi h10a h10b) dX1_lists_69 (by decide) (fun c69 => ?_) (fun c69 => ?_)
                                      · refine li_bipush hx hb dX1_lists_82 (by decide) ?_
                                        refine lv_goto (tgt := 89) hx hb dX1_lists_84 (by decide) ?_
                                        exact J57 _ (⟨by unfold beg; omega, by omega, by omega⟩) H locs hP hD hS ls (lv_sub hl [0, 1, 2, 3, 4, 5] rfl)
                                      · refine lv_aload_n hx hb dX1_lists_72 rfl (lv_at hl 5 rfl) ?_
                                        refine va_get (D := G) (ci := 2) (v := .ref (ad 10)) (C := RX3) (T := TX3) (N := 2) hx hb hts in_X3 hown hK hP 8 (aD_8 _ _ _ _ _ _ _) rfl 1 (by decide) (hts _ q664) (fun _ h9 => h9) rfl dX1_lists_73 ?_
                                        refine lv_iload hx hb dX1_lists_76 (lv_at hl 0 rfl) ?_
                                        refine li_iald (g := (σ 7)) hx hb hK hP 10 0 (aD_10 _ _ _ _ _ _ _) rfl (by omega) (by omega) (by decide) dX1_lists_78 ?_
                                        have r79 := hs1 r1
                                        refine lv_goto (tgt := 89) hx hb dX1_lists_79 (by decide) ?_
                                        exact J57 _ (⟨by unfold beg; omega, by omega, by omega⟩) H locs hP hD hS ls (lv_sub hl [0, 1, 2, 3, 4, 5] rfl)
                                  · refine lv_iload hx hb dX1_lists_51 (lv_at hl 0 rfl) ?_
                                    refine li_if_ne (tgt := 149) hx hb ⟨by omega, by omega⟩ dX1_lists_53 (by decide) (fun c53 => ?_) (fun c53 => ?_)
                                    · exact X39 r1 κb gc gd nb (by omega) (by have := ib_c s1 (320 + 5 * r1) 330; have := ib_c (s1 + 1) 320 330; omega) (LI_skip hLb (by omega) (by omega) (fun x a c => lgl_rope_a h10a h10b (by omega) (by omega) (by omega) (by omega) (by omega))) H locs hP hD hS ls (lv_sub hl [2, 3, 4, 5] rfl)
                                    · refine lv_iload_n hx hb dX1_lists_56 rfl (lv_at hl 2 rfl) ?_
                                      have J57 : ∀ (y57_0 : Int) (_ : beg σ (σ 7) zl s1 r1 y57_0 ∧ -4 ≤ y57_0 ∧ y57_0 ≤ 5) (H : Heap) (locs : List Loc) (_ : va_P G gcl (wD ad ty hv σ (up (up (up ς 0 gc) 1 gd) 2 (sc (nb))) κb ++ cs) H) (_ : va_D A (wD ad ty hv σ (up (up (up ς 0 gc) 1 gd) 2 (sc (nb))) κb ++ cs)) (_ : va_S A s.heap H locs) (ls : Array Slot), lv_has ls 8 [(5, .int (ii r1)), (4, .int (ii zl)), (3, .int (ii s1)), (2, .int (ii 6)), (0, .ref (ad 0)), (1, .ref (ad 8))] → W p l e (rm4 4 0 0 93) s m args below meth c H locs 0 0 Q (F0 m 89 ls [.int (ii y57_0)]) := by
                                        intro y57_0 hj57 H locs hP hD hS ls hl
                                        refine lv_istore (lv' := [(6, .int (ii y57_0)), (5, .int (ii r1)), (4, .int (ii zl)), (3, .int (ii s1)), (2, .int (ii 6)), (0, .ref (ad 0)), (1, .ref (ad 8))]) hx hb dX1_lists_89 hl (by decide) rfl (fun ls hl => ?_)
                                        have hfrom : ∀ x, lgl σ (σ 6) (σ 7) x → (60000 + 1000 * s1 + 100 * r1) ≤ x → x < (60000 + 1000 * s1 + 100 * r1) + 100 → x / 10 % 10 = y57_0 := fun x h a c => lgl_from h (k := 6) (s := s1) (r := r1) (by omega) (by omega) (by omega) hzl2 hj57.1
                                        refine li_iconst hx hb dX1_lists_91 ?_
                                        refine lv_istore (lv' := [(7, .int (ii 0)), (6, .int (ii y57_0)), (5, .int (ii r1)), (4, .int (ii zl)), (3, .int (ii s1)), (2, .int (ii 6)), (0, .ref (ad 0)), (1, .ref (ad 8))]) hx hb dX1_lists_92 hl (by decide) rfl (fun ls hl => ?_)
                                        have X94 : ∀ (t1 : Int) (κc : mem) (ge : Int → Int) (gf : Int → Int) (nc : Int) (_ : 0 ≤ nc) (_ : nc ≤ ib s1 (320 + 5 * (r1 + 1)) 330) (_ : LI (lgl σ (σ 6) (σ 7)) (mvV σ) ge gf nc ((60000 + 1000 * s1 + 100 * r1) + 100)) (H : Heap) (locs : List Loc) (_ : va_P G gcl (wD ad ty hv σ (up (up (up ς 0 ge) 1 gf) 2 (sc (nc))) κc ++ cs) H) (_ : va_D A (wD ad ty hv σ (up (up (up ς 0 ge) 1 gf) 2 (sc (nc))) κc ++ cs)) (_ : va_S A s.heap H locs) (ls : Array Slot), lv_has ls 8 [(5, .int (ii r1)), (4, .int (ii zl)), (3, .int (ii s1)), (2, .int (ii 6)), (0, .ref (ad 0)), (1, .ref (ad 8))] → W p l e (rm4 4 0 0 93) s m args below meth c H locs 0 0 Q (F0 m 143 ls []) := by
                                          intro t1 κc ge gf nc hnc hBc hLz H locs hP hD hS ls hl
                                          refine li_iinc (a := r1) (lv' := [(5, .int (ii (r1 + 1))), (4, .int (ii zl)), (3, .int (ii s1)), (2, .int (ii 6)), (0, .ref (ad 0)), (1, .ref (ad 8))]) hx hb dX1_lists_143 hl (k := 0) rfl (by decide) rfl (fun ls hl => ?_)
                                          refine lv_goto (tgt := 39) hx hb dX1_lists_146 (by decide) ?_
                                          exact ih (r1 + 1) κc ge gf nc (by omega) (by omega) (by omega) (hBc) (by rw [show (60000 + 1000 * s1 + 100 * (r1 + 1)) = 60000 + 1000 * s1 + 100 * r1 + 100 by omega]; exact hLz) (by omega) H locs hP hD hS ls (lv_sub hl [0, 1, 2, 3, 4, 5] rfl)
                                        have L94 : ∀ (n : Nat) (t1 : Int) (κc : mem) (ge : Int → Int) (gf : Int → Int) (nc : Int) (_ : 0 ≤ t1) (_ : t1 ≤ σ 8 0) (_ : 0 ≤ nc) (_ : nc ≤ ib s1 (320 + 5 * r1 + t1) 330) (_ : LQ (lgl σ (σ 6) (σ 7)) (mvV σ) ge gf nc ((60000 + 1000 * s1 + 100 * r1) + 10 * y57_0 + t1) (60000 + 1000 * s1 + 100 * r1) t1 y57_0) (_ : (5 - t1).toNat < n) (H : Heap) (locs : List Loc) (_ : va_P G gcl (wD ad ty hv σ (up (up (up ς 0 ge) 1 gf) 2 (sc (nc))) κc ++ cs) H) (_ : va_D A (wD ad ty hv σ (up (up (up ς 0 ge) 1 gf) 2 (sc (nc))) κc ++ cs)) (_ : va_S A s.heap H locs) (ls : Array Slot), lv_has ls 8 [(7, .int (ii t1)), (6, .int (ii y57_0)), (5, .int (ii r1)), (4, .int (ii zl)), (3, .int (ii s1)), (2, .int (ii 6)), (0, .ref (ad 0)), (1, .ref (ad 8))] → W p l e (rm4 4 0 0 93) s m args below meth c H locs 0 0 Q (F0 m 94 ls []) := by
                                          intro n
                                          induction n with
                                          | zero =>
                                            intro t1 κc ge gf nc ht1a ht1b hnc hBc hLc hm
                                            exact absurd hm (Nat.not_lt_zero _)
                                          | succ n ih =>
                                            intro t1 κc ge gf nc ht1a ht1b hnc hBc hLc hm H locs hP hD hS ls hl
                                            refine lv_iload hx hb dX1_lists_94 (lv_at hl 1 rfl) ?_
                                            refine li_iconst hx hb dX1_lists_96 ?_
                                            refine li_iconst hx hb dX1_lists_97 ?_
                                            refine kR (va_runS (As := [.int (ii y57_0), .int (ii 0), .int (ii 4)]) (rest := []) ⟨hx, hb, hml, hown, hts⟩ (m_isIn l G ty (wD ad ty hv σ (up (up (up ς 0 ge) 1 gf) 2 (sc (nc))) κc ++ cs) y57_0 0 4 ⟨by omega, by omega⟩ ⟨by decide, by decide⟩ ⟨by decide, by decide⟩) (va_cwS 3 hts (lw_S q117 q118 q76 q119) rfl rfl rfl (by decide +kernel) ⟨Nat.le_of_ble_eq_true rfl, Nat.le_of_ble_eq_true rfl⟩) (psR hK hP hD hX) rfl rfl hl.1 rfl (lv_room (Nat.le_of_ble_eq_true rfl)) dX1_lists_98 ⟨Nat.le_of_ble_eq_true rfl, Nat.le_of_ble_eq_true rfl⟩) (fun v hv => ?_)
                                            obtain ⟨z98, rfl, ⟨rfl, h98⟩ | ⟨rfl, h98⟩⟩ := hv
                                            · refine li_if_eq (tgt := 143) hx hb ⟨by decide, by decide⟩ dX1_lists_101 (by decide) (fun c101 => ?_) (fun c101 => ?_)
                                              · exact absurd c101 (by decide)
                                              · refine lv_iload hx hb dX1_lists_104 (lv_at hl 0 rfl) ?_
                                                refine lv_aload_n hx hb dX1_lists_106 rfl (lv_at hl 6 rfl) ?_
                                                refine va_get (D := G) (ci := 0) (v := .ref (ad 1)) (C := RX1) (T := TX1) (N := 21) hx hb hts in_X1 hown hK hP 0 (aD_0 _ _ _ _ _ _ _) rfl 0 (by decide) (hts _ q977) (fun _ h9 => h9) rfl dX1_lists_107 ?_
                                                refine va_get (D := G) (ci := 1) (v := .int (ii (σ 8 0))) (C := RX2) (T := TX2) (N := 13) hx hb hts in_X2 hown hK hP 1 (aD_1 _ _ _ _ _ _ _) rfl 4 (by decide) (hts _ q785) (fun _ h9 => h9) rfl dX1_lists_110 ?_
                                                refine li_icmp_ge (tgt := 143) hx hb ⟨by omega, by omega⟩ (rgi h8a h8b) dX1_lists_113 (by decide) (fun c113 => ?_) (fun c113 => ?_)
                                                · exact X94 t1 κc ge gf nc (by omega) (by have := ib_c s1 (320 + 5 * r1 + t1) 330; have := ib_c s1 (320 + 5 * (r1 + 1)) 330; omega) (by rcases hLc with ⟨q1, q2, q3⟩ | ⟨q1, q2, q3⟩; exact LI_skip q3 (by omega) (by omega) (fun x a c h => by have h1 := hfrom x h (by omega) (by omega); have h2 := lgl_to h; omega); exact LI_skip q3 (by omega) (by omega) (fun x a c h => by have h1 := hfrom x h (by omega) (by omega); have := lgl_fr h; omega)) H locs hP hD hS ls (lv_sub hl [2, 3, 4, 5, 6, 7] rfl)
                                                · have hb0 : 0 ≤ y57_0 := h98.1
                                                  have hb4 : y57_0 ≤ 4 := h98.2
                                                  have hLe := LI_in hLc ⟨hb0, hb4⟩
                                                  refine lv_aload_n hx hb dX1_lists_116 rfl (lv_at hl 6 rfl) ?_
                                                  refine lv_aload_n hx hb dX1_lists_117 rfl (lv_at hl 6 rfl) ?_
                                                  refine va_get (D := G) (ci := 0) (v := .ref (ad 31)) (C := RX1) (T := TX1) (N := 21) hx hb hts in_X1 hown hK hP 0 (aD_0 _ _ _ _ _ _ _) rfl 4 (by decide) (hts _ q981) (fun _ h9 => h9) rfl dX1_lists_118 ?_
                                                  refine lv_iload_n hx hb dX1_lists_121 rfl (lv_at hl 5 rfl) ?_
                                                  refine li_aald (q := ad 38) hx hb hK hP 31 5 (aD_31 _ _ _ _ _ _ _) rfl (by decide) (by decide) (by decide) (rfl) dX1_lists_122 ?_
                                                  refine lv_iload_n hx hb dX1_lists_123 rfl (lv_at hl 4 rfl) ?_
                                                  refine lv_iload hx hb dX1_lists_124 (lv_at hl 2 rfl) ?_
                                                  refine lv_iload hx hb dX1_lists_126 (lv_at hl 1 rfl) ?_
                                                  refine lv_iload hx hb dX1_lists_128 (lv_at hl 0 rfl) ?_
                                                  refine v_tells (mi := 38) (md := ad 38) (a1 := s1) (a2 := r1) (a3 := y57_0) (a4 := t1) hx hb hml hown hts hK hP hD hX 6 (by decide) hS hA (aDk ad ty hv σ _ κc cs (by decide)) (Nat.le_of_ble_eq_true rfl) (Nat.le_of_ble_eq_true rfl) hl.1 (Nat.le_of_ble_eq_true rfl) ⟨Nat.le_of_ble_eq_true rfl, Nat.le_of_ble_eq_true rfl⟩ dX1_lists_130 (fun H locs hP hD hS => ?_)
                                                  rw [aDk_set ad ty hv σ _ κc cs (show 6 < 7 by decide)] at hP hD
                                                  refine lv_aload_n hx hb dX1_lists_133 rfl (lv_at hl 7 rfl) ?_
                                                  refine kM (va_runV (As := [.ref (ad 38), .ref (ad 8)]) (rest := []) ⟨hx, hb, hml, hown, hts⟩ (m_tries_6N l G ad ty hv σ (up (up (up ς 0 ge) 1 gf) 2 (sc (nc))) (setk κc 6 (s1) (r1) (y57_0) (t1)) cs hW hWT hlgT ⟨hs1a, by show s1 ≤ 7; omega, hr1a, by show r1 ≤ 1; omega, hb0, hb4, ht1a, by show t1 ≤ 4; omega⟩ ⟨hnc, by show nc < 400; have := ib_c s1 (320 + 5 * r1 + t1) 330; omega⟩ H.size) (cwV 2 hts (lw_V q553 q555 qs21 q76 q556) rfl rfl rfl (by decide +kernel) ⟨Nat.le_of_ble_eq_true rfl, Nat.le_of_ble_eq_true rfl⟩) (pvM (r := (RX1, TX1, 21)) hK hP hD hX 0 (aD_0 _ _ _ _ _ _ _) rfl) rfl rfl hl.1 rfl (lv_room (Nat.le_of_ble_eq_true rfl)) dX1_lists_134 ⟨Nat.le_of_ble_eq_true rfl, Nat.le_of_ble_eq_true rfl⟩) hD hS hA (fun v ws1 H locs hv hP hD hS => ?_)
                                                  obtain ⟨gg, gh, nd, rfl, rfl, hadd⟩ := hv
                                                  change (mnOk σ (σ 6) (σ 7) 6 s1 r1 y57_0 t1 ∧ gg = ug ge nc (60000 + 1000 * s1 + 100 * r1 + 10 * y57_0 + t1) ∧ gh = ug gf nc (mnV σ 6 s1 y57_0 t1) ∧ nd = nc + 1) ∨ (¬ mnOk σ (σ 6) (σ 7) 6 s1 r1 y57_0 t1 ∧ gg = ge ∧ gh = gf ∧ nd = nc) at hadd
                                                  have hLd : LI (lgl σ (σ 6) (σ 7)) (mvV σ) gg gh nd ((60000 + 1000 * s1 + 100 * r1) + 10 * y57_0 + (t1 + 1)) := LI_mv hadd hLe (by omega) (by omega) (by omega) (by omega) (by omega) (by omega) (by omega) (by omega) (by omega) (by omega)
                                                  have hnd : nc ≤ nd ∧ nd ≤ nc + 1 ∧ (nd = nc ∨ s1 = 0) := by
                                                    rcases hadd with ⟨q1, -, -, q2⟩ | ⟨-, -, -, q2⟩
                                                    · have q3 := (mnOk_6.mp q1).1; omega
                                                    · omega
                                                  have hP : va_P G gcl (wD ad ty hv σ (up (up (up ς 0 gg) 1 gh) 2 (sc (nd))) (setk κc 6 (s1) (r1) (y57_0) (t1)) ++ cs) H := hP
                                                  have hD : va_D A (wD ad ty hv σ (up (up (up ς 0 gg) 1 gh) 2 (sc (nd))) (setk κc 6 (s1) (r1) (y57_0) (t1)) ++ cs) := hD
                                                  refine li_iinc (a := t1) (lv' := [(7, .int (ii (t1 + 1))), (6, .int (ii y57_0)), (5, .int (ii r1)), (4, .int (ii zl)), (3, .int (ii s1)), (2, .int (ii 6)), (0, .ref (ad 0)), (1, .ref (ad 8))]) hx hb dX1_lists_137 hl (k := 0) rfl (by decide) rfl (fun ls hl => ?_)
                                                  refine lv_goto (tgt := 94) hx hb dX1_lists_140 (by decide) ?_
                                                  exact ih (t1 + 1) (setk κc 6 (s1) (r1) (y57_0) (t1)) gg gh nd (by omega) (by omega) (by omega) (by have := ib_c s1 (320 + 5 * r1 + t1) 330; have := ib_c s1 (320 + 5 * r1 + (t1 + 1)) 330; omega) (.inl ⟨hb0, hb4, hLd⟩) (by omega) H locs hP hD hS ls (lv_sub hl [0, 1, 2, 3, 4, 5, 6, 7] rfl)
                                            · refine li_if_eq (tgt := 143) hx hb ⟨by decide, by decide⟩ dX1_lists_101 (by decide) (fun c101 => ?_) (fun c101 => ?_)
                                              · exact X94 t1 κc ge gf nc (by omega) (by have := ib_c s1 (320 + 5 * r1 + t1) 330; have := ib_c s1 (320 + 5 * (r1 + 1)) 330; omega) (by rcases hLc with ⟨q1, q2, q3⟩ | ⟨q1, q2, q3⟩; exact LI_skip q3 (by omega) (by omega) (fun x a c h => by have h1 := hfrom x h (by omega) (by omega); have h2 := lgl_to h; omega); exact LI_skip q3 (by omega) (by omega) (fun x a c h => by have h1 := hfrom x h (by omega) (by omega); have := lgl_fr h; omega)) H locs hP hD hS ls (lv_sub hl [2, 3, 4, 5, 6, 7] rfl)
                                              · exact absurd c101 (by decide)
                                        exact L94 _ 0 κb gc gd nb (by omega) (by omega) (by omega) (by have := ib_c s1 (320 + 5 * r1 + 0) 330; have := ib_c s1 (320 + 5 * r1) 330; omega) (by rcases Classical.em (0 ≤ y57_0 ∧ y57_0 ≤ 4) with e | e; exact .inl ⟨e.1, e.2, LI_skip hLb (by omega) (by omega) (fun x a c h => by have := hfrom x h (by omega) (by omega); omega)⟩; exact .inr ⟨e, rfl, hLb⟩) (Nat.lt_succ_self _) H locs hP hD hS ls (lv_sub hl [0, 1, 2, 3, 4, 5, 6, 7] rfl)
                                      refine li_if_ne (tgt := 87) hx hb ⟨by omega, by omega⟩ dX1_lists_57 (by decide) (fun c57 => ?_) (fun c57 => ?_)
                                      · refine lv_iload hx hb dX1_lists_87 (lv_at hl 1 rfl) ?_
                                        exact J57 _ (⟨by unfold beg; omega, by omega, by omega⟩) H locs hP hD hS ls (lv_sub hl [0, 1, 2, 3, 4, 5] rfl)
                                      · refine lv_iload hx hb dX1_lists_60 (lv_at hl 0 rfl) ?_
                                        refine lv_aload_n hx hb dX1_lists_62 rfl (lv_at hl 4 rfl) ?_
                                        refine va_get (D := G) (ci := 0) (v := .ref (ad 1)) (C := RX1) (T := TX1) (N := 21) hx hb hts in_X1 hown hK hP 0 (aD_0 _ _ _ _ _ _ _) rfl 0 (by decide) (hts _ q977) (fun _ h9 => h9) rfl dX1_lists_63 ?_
                                        refine va_get (D := G) (ci := 1) (v := .int (ii (σ 10 0))) (C := RX2) (T := TX2) (N := 13) hx hb hts in_X2 hown hK hP 1 (aD_1 _ _ _ _ _ _ _) rfl 8 (by decide) (hts _ q801) (fun _ h9 => h9) rfl dX1_lists_66 ?_
                                        refine li_icmp_ge (tgt := 82) hx hb ⟨by omega, by omega⟩ (rgi h10a h10b) dX1_lists_69 (by decide) (fun c69 => ?_) (fun c69 => ?_)
                                        · refine li_bipush hx hb dX1_lists_82 (by decide) ?_
                                          refine lv_goto (tgt := 89) hx hb dX1_lists_84 (by decide) ?_
                                          exact J57 _ (⟨by unfold beg; omega, by omega, by omega⟩) H locs hP hD hS ls (lv_sub hl [0, 1, 2, 3, 4, 5] rfl)
                                        · refine lv_aload_n hx hb dX1_lists_72 rfl (lv_at hl 5 rfl) ?_
                                          refine va_get (D := G) (ci := 2) (v := .ref (ad 10)) (C := RX3) (T := TX3) (N := 2) hx hb hts in_X3 hown hK hP 8 (aD_8 _ _ _ _ _ _ _) rfl 1 (by decide) (hts _ q664) (fun _ h9 => h9) rfl dX1_lists_73 ?_
                                          refine lv_iload hx hb dX1_lists_76 (lv_at hl 0 rfl) ?_
                                          refine li_iald (g := (σ 7)) hx hb hK hP 10 0 (aD_10 _ _ _ _ _ _ _) rfl (by omega) (by omega) (by decide) dX1_lists_78 ?_
                                          have r79 := hs1 r1
                                          refine lv_goto (tgt := 89) hx hb dX1_lists_79 (by decide) ?_
                                          exact J57 _ (⟨by unfold beg; omega, by omega, by omega⟩) H locs hP hD hS ls (lv_sub hl [0, 1, 2, 3, 4, 5] rfl)
                              exact L39 _ 0 κa ga gb na (by omega) (by omega) (by omega) (by have := ib_c s1 (320 + 5 * 0) 330; have := ib_c s1 320 330; omega) (by rw [show (60000 + 1000 * s1 + 100 * (0 : Int)) = 60000 + 1000 * s1 by omega]; exact hLa) (Nat.lt_succ_self _) H locs hP hD hS ls (lv_sub hl [0, 1, 2, 3, 4, 5] rfl)
                        exact L15 _ 0 κa ga gb na (by omega) (by omega) (by omega) (by omega) (by have := ib_c 0 320 330; omega) (by first | exact LI_skip (LI_0 _ _ _ _) (by decide) (by decide) (fun x a c => lgl_0 (by omega)) | (rw [show (60000 + 1000 * (0 : Int)) = 60000 by rfl]; exact hLx)) (Nat.lt_succ_self _) H locs hP hD hS ls (lv_sub hl [0, 1, 2, 3] rfl)
                    have L15 : ∀ (n : Nat) (s1 : Int) (κa : mem) (ga : Int → Int) (gb : Int → Int) (na : Int) (_ : 0 ≤ s1) (_ : s1 ≤ p2 (σ 9 0)) (_ : s1 ≤ 8) (_ : 0 ≤ na) (_ : na ≤ 280 + 5 * s1) (_ : LI (lgl σ (σ 6) (σ 7)) (mvV σ) ga gb na (50000 + 1000 * s1)) (_ : (8 - s1).toNat < n) (H : Heap) (locs : List Loc) (_ : va_P G gcl (wD ad ty hv σ (up (up (up ς 0 ga) 1 gb) 2 (sc (na))) κa ++ cs) H) (_ : va_D A (wD ad ty hv σ (up (up (up ς 0 ga) 1 gb) 2 (sc (na))) κa ++ cs)) (_ : va_S A s.heap H locs) (ls : Array Slot), lv_has ls 8 [(3, .int (ii s1)), (2, .int (ii 5)), (0, .ref (ad 0)), (1, .ref (ad 8))] → W p l e (rm4 4 0 0 93) s m args below meth c H locs 0 0 Q (F0 m 15 ls []) := by
                      intro n
                      induction n with
                      | zero =>
                        intro s1 κa ga gb na hs1a hs1b hs7 hna hBa hLa hm
                        exact absurd hm (Nat.not_lt_zero _)
                      | succ n ih =>
                        intro s1 κa ga gb na hs1a hs1b hs7 hna hBa hLa hm H locs hP hD hS ls hl
                        refine lv_iload_n hx hb dX1_lists_15 rfl (lv_at hl 0 rfl) ?_
                        refine li_iconst hx hb dX1_lists_16 ?_
                        refine lv_aload_n hx hb dX1_lists_17 rfl (lv_at hl 2 rfl) ?_
                        refine va_get (D := G) (ci := 0) (v := .ref (ad 1)) (C := RX1) (T := TX1) (N := 21) hx hb hts in_X1 hown hK hP 0 (aD_0 _ _ _ _ _ _ _) rfl 0 (by decide) (hts _ q977) (fun _ h9 => h9) rfl dX1_lists_18 ?_
                        refine va_get (D := G) (ci := 1) (v := .int (ii (σ 9 0))) (C := RX2) (T := TX2) (N := 13) hx hb hts in_X2 hown hK hP 1 (aD_1 _ _ _ _ _ _ _) rfl 6 (by decide) (hts _ q790) (fun _ h9 => h9) rfl dX1_lists_21 ?_
                        refine lv_ishl hx hb dX1_lists_24 ?_
                        refine li_topx (z := p2 (σ 9 0)) (ii_shl1 h9a h9b) ?_
                        refine li_icmp_ge (tgt := 155) hx hb ⟨by omega, by omega⟩ ⟨by omega, by omega⟩ dX1_lists_25 (by decide) (fun c25 => ?_) (fun c25 => ?_)
                        · exact X15 s1 κa ga gb na (by omega) (by omega) (LI_skip hLa (by omega) (by omega) (fun x a c => lgl_set h9a h9b (by omega) (by omega))) H locs hP hD hS ls (lv_sub hl [1, 2, 3] rfl)
                        · refine lv_aload_n hx hb dX1_lists_28 rfl (lv_at hl 2 rfl) ?_
                          refine lv_iload_n hx hb dX1_lists_29 rfl (lv_at hl 0 rfl) ?_
                          refine lv_aload_n hx hb dX1_lists_30 rfl (lv_at hl 3 rfl) ?_
                          refine kR (va_runV (As := [.int (ii s1), .ref (ad 8)]) (rest := []) ⟨hx, hb, hml, hown, hts⟩ (m_ledgeOfN l G ad ty hv σ (up (up (up ς 0 ga) 1 gb) 2 (sc (na))) κa cs s1 hW hWT ⟨by omega, by omega⟩) (cwV 2 hts (lw_V q549 q551 qs20 q76 q552) rfl rfl rfl (by decide +kernel) ⟨Nat.le_of_ble_eq_true rfl, Nat.le_of_ble_eq_true rfl⟩) (pvR (r := (RX1, TX1, 21)) hK hP hD hX 0 (aD_0 _ _ _ _ _ _ _) rfl) rfl rfl hl.1 rfl (lv_room (Nat.le_of_ble_eq_true rfl)) dX1_lists_31 ⟨Nat.le_of_ble_eq_true rfl, Nat.le_of_ble_eq_true rfl⟩) (fun v hv => ?_)
                          obtain ⟨zl, rfl, hzl, hzl2⟩ := hv
                          replace hzl : -4 ≤ zl ∧ zl ≤ 4 := by omega
                          refine lv_istore (lv' := [(4, .int (ii zl)), (3, .int (ii s1)), (2, .int (ii 5)), (0, .ref (ad 0)), (1, .ref (ad 8))]) hx hb dX1_lists_34 hl (by decide) rfl (fun ls hl => ?_)
                          refine li_iconst hx hb dX1_lists_36 ?_
                          refine lv_istore (lv' := [(5, .int (ii 0)), (4, .int (ii zl)), (3, .int (ii s1)), (2, .int (ii 5)), (0, .ref (ad 0)), (1, .ref (ad 8))]) hx hb dX1_lists_37 hl (by decide) rfl (fun ls hl => ?_)
                          have X39 : ∀ (r1 : Int) (κb : mem) (gc : Int → Int) (gd : Int → Int) (nb : Int) (_ : 0 ≤ nb) (_ : nb ≤ 280 + 5 * (s1 + 1)) (_ : LI (lgl σ (σ 6) (σ 7)) (mvV σ) gc gd nb (50000 + 1000 * s1 + 1000)) (H : Heap) (locs : List Loc) (_ : va_P G gcl (wD ad ty hv σ (up (up (up ς 0 gc) 1 gd) 2 (sc (nb))) κb ++ cs) H) (_ : va_D A (wD ad ty hv σ (up (up (up ς 0 gc) 1 gd) 2 (sc (nb))) κb ++ cs)) (_ : va_S A s.heap H locs) (ls : Array Slot), lv_has ls 8 [(3, .int (ii s1)), (2, .int (ii 5)), (0, .ref (ad 0)), (1, .ref (ad 8))] → W p l e (rm4 4 0 0 93) s m args below meth c H locs 0 0 Q (F0 m 149 ls []) := by
                            intro r1 κb gc gd nb hnb hBb hLy H locs hP hD hS ls hl
                            refine li_iinc (a := s1) (lv' := [(3, .int (ii (s1 + 1))), (2, .int (ii 5)), (0, .ref (ad 0)), (1, .ref (ad 8))]) hx hb dX1_lists_149 hl (k := 0) rfl (by decide) rfl (fun ls hl => ?_)
                            refine lv_goto (tgt := 15) hx hb dX1_lists_152 (by decide) ?_
                            exact ih (s1 + 1) κb gc gd nb (by omega) (by omega) (by omega) (by omega) (hBb) (by rw [show (50000 + 1000 * (s1 + 1)) = 50000 + 1000 * s1 + 1000 by omega]; exact hLy) (by omega) H locs hP hD hS ls (lv_sub hl [0, 1, 2, 3] rfl)
                          have L39 : ∀ (n : Nat) (r1 : Int) (κb : mem) (gc : Int → Int) (gd : Int → Int) (nb : Int) (_ : 0 ≤ r1) (_ : r1 ≤ 2) (_ : 0 ≤ nb) (_ : nb ≤ 280 + 5 * s1 + ib r1 0 5) (_ : LI (lgl σ (σ 6) (σ 7)) (mvV σ) gc gd nb (50000 + 1000 * s1 + 100 * r1)) (_ : (2 - r1).toNat < n) (H : Heap) (locs : List Loc) (_ : va_P G gcl (wD ad ty hv σ (up (up (up ς 0 gc) 1 gd) 2 (sc (nb))) κb ++ cs) H) (_ : va_D A (wD ad ty hv σ (up (up (up ς 0 gc) 1 gd) 2 (sc (nb))) κb ++ cs)) (_ : va_S A s.heap H locs) (ls : Array Slot), lv_has ls 8 [(5, .int (ii r1)), (4, .int (ii zl)), (3, .int (ii s1)), (2, .int (ii 5)), (0, .ref (ad 0)), (1, .ref (ad 8))] → W p l e (rm4 4 0 0 93) s m args below meth c H locs 0 0 Q (F0 m 39 ls []) := by
                            intro n
                            induction n with
                            | zero =>
                              intro r1 κb gc gd nb hr1a hr1b hnb hBb hLb hm
                              exact absurd hm (Nat.not_lt_zero _)
                            | succ n ih =>
                              intro r1 κb gc gd nb hr1a hr1b hnb hBb hLb hm H locs hP hD hS ls hl
                              refine lv_iload hx hb dX1_lists_39 (lv_at hl 0 rfl) ?_
                              refine lv_aload_n hx hb dX1_lists_41 rfl (lv_at hl 4 rfl) ?_
                              refine va_get (D := G) (ci := 0) (v := .ref (ad 1)) (C := RX1) (T := TX1) (N := 21) hx hb hts in_X1 hown hK hP 0 (aD_0 _ _ _ _ _ _ _) rfl 0 (by decide) (hts _ q977) (fun _ h9 => h9) rfl dX1_lists_42 ?_
                              refine va_get (D := G) (ci := 1) (v := .int (ii (σ 10 0))) (C := RX2) (T := TX2) (N := 13) hx hb hts in_X2 hown hK hP 1 (aD_1 _ _ _ _ _ _ _) rfl 8 (by decide) (hts _ q801) (fun _ h9 => h9) rfl dX1_lists_45 ?_
                              refine li_icmp_lt (tgt := 56) hx hb ⟨by omega, by omega⟩ (rgi h10a h10b) dX1_lists_48 (by decide) (fun c48 => ?_) (fun c48 => ?_)
                              · refine lv_iload_n hx hb dX1_lists_56 rfl (lv_at hl 2 rfl) ?_
                                have J57 : ∀ (y57_0 : Int) (_ : beg σ (σ 7) zl s1 r1 y57_0 ∧ -4 ≤ y57_0 ∧ y57_0 ≤ 5) (H : Heap) (locs : List Loc) (_ : va_P G gcl (wD ad ty hv σ (up (up (up ς 0 gc) 1 gd) 2 (sc (nb))) κb ++ cs) H) (_ : va_D A (wD ad ty hv σ (up (up (up ς 0 gc) 1 gd) 2 (sc (nb))) κb ++ cs)) (_ : va_S A s.heap H locs) (ls : Array Slot), lv_has ls 8 [(5, .int (ii r1)), (4, .int (ii zl)), (3, .int (ii s1)), (2, .int (ii 5)), (0, .ref (ad 0)), (1, .ref (ad 8))] → W p l e (rm4 4 0 0 93) s m args below meth c H locs 0 0 Q (F0 m 89 ls [.int (ii y57_0)]) := by
                                  intro y57_0 hj57 H locs hP hD hS ls hl
                                  refine lv_istore (lv' := [(6, .int (ii y57_0)), (5, .int (ii r1)), (4, .int (ii zl)), (3, .int (ii s1)), (2, .int (ii 5)), (0, .ref (ad 0)), (1, .ref (ad 8))]) hx hb dX1_lists_89 hl (by decide) rfl (fun ls hl => ?_)
                                  have hfrom : ∀ x, lgl σ (σ 6) (σ 7) x → (50000 + 1000 * s1 + 100 * r1) ≤ x → x < (50000 + 1000 * s1 + 100 * r1) + 100 → x / 10 % 10 = y57_0 := fun x h a c => lgl_from h (k := 5) (s := s1) (r := r1) (by omega) (by omega) (by omega) hzl2 hj57.1
                                  refine li_iconst hx hb dX1_lists_91 ?_
                                  refine lv_istore (lv' := [(7, .int (ii 0)), (6, .int (ii y57_0)), (5, .int (ii r1)), (4, .int (ii zl)), (3, .int (ii s1)), (2, .int (ii 5)), (0, .ref (ad 0)), (1, .ref (ad 8))]) hx hb dX1_lists_92 hl (by decide) rfl (fun ls hl => ?_)
                                  have X94 : ∀ (t1 : Int) (κc : mem) (ge : Int → Int) (gf : Int → Int) (nc : Int) (_ : 0 ≤ nc) (_ : nc ≤ 280 + 5 * s1 + ib (r1 + 1) 0 5) (_ : LI (lgl σ (σ 6) (σ 7)) (mvV σ) ge gf nc ((50000 + 1000 * s1 + 100 * r1) + 100)) (H : Heap) (locs : List Loc) (_ : va_P G gcl (wD ad ty hv σ (up (up (up ς 0 ge) 1 gf) 2 (sc (nc))) κc ++ cs) H) (_ : va_D A (wD ad ty hv σ (up (up (up ς 0 ge) 1 gf) 2 (sc (nc))) κc ++ cs)) (_ : va_S A s.heap H locs) (ls : Array Slot), lv_has ls 8 [(5, .int (ii r1)), (4, .int (ii zl)), (3, .int (ii s1)), (2, .int (ii 5)), (0, .ref (ad 0)), (1, .ref (ad 8))] → W p l e (rm4 4 0 0 93) s m args below meth c H locs 0 0 Q (F0 m 143 ls []) := by
                                    intro t1 κc ge gf nc hnc hBc hLz H locs hP hD hS ls hl
                                    refine li_iinc (a := r1) (lv' := [(5, .int (ii (r1 + 1))), (4, .int (ii zl)), (3, .int (ii s1)), (2, .int (ii 5)), (0, .ref (ad 0)), (1, .ref (ad 8))]) hx hb dX1_lists_143 hl (k := 0) rfl (by decide) rfl (fun ls hl => ?_)
                                    refine lv_goto (tgt := 39) hx hb dX1_lists_146 (by decide) ?_
                                    exact ih (r1 + 1) κc ge gf nc (by omega) (by omega) (by omega) (hBc) (by rw [show (50000 + 1000 * s1 + 100 * (r1 + 1)) = 50000 + 1000 * s1 + 100 * r1 + 100 by omega]; exact hLz) (by omega) H locs hP hD hS ls (lv_sub hl [0, 1, 2, 3, 4, 5] rfl)
                                  have L94 : ∀ (n : Nat) (t1 : Int) (κc : mem) (ge : Int → Int) (gf : Int → Int) (nc : Int) (_ : 0 ≤ t1) (_ : t1 ≤ σ 8 0) (_ : 0 ≤ nc) (_ : nc ≤ 280 + 5 * s1 + ib r1 t1 5) (_ : LQ (lgl σ (σ 6) (σ 7)) (mvV σ) ge gf nc ((50000 + 1000 * s1 + 100 * r1) + 10 * y57_0 + t1) (50000 + 1000 * s1 + 100 * r1) t1 y57_0) (_ : (5 - t1).toNat < n) (H : Heap) (locs : List Loc) (_ : va_P G gcl (wD ad ty hv σ (up (up (up ς 0 ge) 1 gf) 2 (sc (nc))) κc ++ cs) H) (_ : va_D A (wD ad ty hv σ (up (up (up ς 0 ge) 1 gf) 2 (sc (nc))) κc ++ cs)) (_ : va_S A s.heap H locs) (ls : Array Slot), lv_has ls 8 [(7, .int (ii t1)), (6, .int (ii y57_0)), (5, .int (ii r1)), (4, .int (ii zl)), (3, .int (ii s1)), (2, .int (ii 5)), (0, .ref (ad 0)), (1, .ref (ad 8))] → W p l e (rm4 4 0 0 93) s m args below meth c H locs 0 0 Q (F0 m 94 ls []) := by
                                    intro n
                                    induction n with
                                    | zero =>
                                      intro t1 κc ge gf nc ht1a ht1b hnc hBc hLc hm
                                      exact absurd hm (Nat.not_lt_zero _)
                                    | succ n ih =>
                                      intro t1 κc ge gf nc ht1a ht1b hnc hBc hLc hm H locs hP hD hS ls hl
                                      refine lv_iload hx hb dX1_lists_94 (lv_at hl 1 rfl) ?_
                                      refine li_iconst hx hb dX1_lists_96 ?_
                                      refine li_iconst hx hb dX1_lists_97 ?_
                                      refine kR (va_runS (As := [.int (ii y57_0), .int (ii 0), .int (ii 4)]) (rest := []) ⟨hx, hb, hml, hown, hts⟩ (m_isIn l G ty (wD ad ty hv σ (up (up (up ς 0 ge) 1 gf) 2 (sc (nc))) κc ++ cs) y57_0 0 4 ⟨by omega, by omega⟩ ⟨by decide, by decide⟩ ⟨by decide, by decide⟩) (va_cwS 3 hts (lw_S q117 q118 q76 q119) rfl rfl rfl (by decide +kernel) ⟨Nat.le_of_ble_eq_true rfl, Nat.le_of_ble_eq_true rfl⟩) (psR hK hP hD hX) rfl rfl hl.1 rfl (lv_room (Nat.le_of_ble_eq_true rfl)) dX1_lists_98 ⟨Nat.le_of_ble_eq_true rfl, Nat.le_of_ble_eq_true rfl⟩) (fun v hv => ?_)
                                      obtain ⟨z98, rfl, ⟨rfl, h98⟩ | ⟨rfl, h98⟩⟩ := hv
                                      · refine li_if_eq (tgt := 143) hx hb ⟨by decide, by decide⟩ dX1_lists_101 (by decide) (fun c101 => ?_) (fun c101 => ?_)
                                        · exact absurd c101 (by decide)
                                        · refine lv_iload hx hb dX1_lists_104 (lv_at hl 0 rfl) ?_
                                          refine lv_aload_n hx hb dX1_lists_106 rfl (lv_at hl 6 rfl) ?_
                                          refine va_get (D := G) (ci := 0) (v := .ref (ad 1)) (C := RX1) (T := TX1) (N := 21) hx hb hts in_X1 hown hK hP 0 (aD_0 _ _ _ _ _ _ _) rfl 0 (by decide) (hts _ q977) (fun _ h9 => h9) rfl dX1_lists_107 ?_
                                          refine va_get (D := G) (ci := 1) (v := .int (ii (σ 8 0))) (C := RX2) (T := TX2) (N := 13) hx hb hts in_X2 hown hK hP 1 (aD_1 _ _ _ _ _ _ _) rfl 4 (by decide) (hts _ q785) (fun _ h9 => h9) rfl dX1_lists_110 ?_
                                          refine li_icmp_ge (tgt := 143) hx hb ⟨by omega, by omega⟩ (rgi h8a h8b) dX1_lists_113 (by decide) (fun c113 => ?_) (fun c113 => ?_)
                                          · exact X94 t1 κc ge gf nc (by omega) (by have := ib_c r1 t1 5; have := ib_c (r1 + 1) 0 5; omega) (by rcases hLc with ⟨q1, q2, q3⟩ | ⟨q1, q2, q3⟩; exact LI_skip q3 (by omega) (by omega) (fun x a c h => by have h1 := hfrom x h (by omega) (by omega); have h2 := lgl_to h; omega); exact LI_skip q3 (by omega) (by omega) (fun x a c h => by have h1 := hfrom x h (by omega) (by omega); have := lgl_fr h; omega)) H locs hP hD hS ls (lv_sub hl [2, 3, 4, 5, 6, 7] rfl)
                                          · have hb0 : 0 ≤ y57_0 := h98.1
                                            have hb4 : y57_0 ≤ 4 := h98.2
                                            have hLe := LI_in hLc ⟨hb0, hb4⟩
                                            refine lv_aload_n hx hb dX1_lists_116 rfl (lv_at hl 6 rfl) ?_
                                            refine lv_aload_n hx hb dX1_lists_117 rfl (lv_at hl 6 rfl) ?_
                                            refine va_get (D := G) (ci := 0) (v := .ref (ad 31)) (C := RX1) (T := TX1) (N := 21) hx hb hts in_X1 hown hK hP 0 (aD_0 _ _ _ _ _ _ _) rfl 4 (by decide) (hts _ q981) (fun _ h9 => h9) rfl dX1_lists_118 ?_
                                            refine lv_iload_n hx hb dX1_lists_121 rfl (lv_at hl 5 rfl) ?_
                                            refine li_aald (q := ad 37) hx hb hK hP 31 5 (aD_31 _ _ _ _ _ _ _) rfl (by decide) (by decide) (by decide) (rfl) dX1_lists_122 ?_
                                            refine lv_iload_n hx hb dX1_lists_123 rfl (lv_at hl 4 rfl) ?_
                                            refine lv_iload hx hb dX1_lists_124 (lv_at hl 2 rfl) ?_
                                            refine lv_iload hx hb dX1_lists_126 (lv_at hl 1 rfl) ?_
                                            refine lv_iload hx hb dX1_lists_128 (lv_at hl 0 rfl) ?_
                                            refine v_tells (mi := 37) (md := ad 37) (a1 := s1) (a2 := r1) (a3 := y57_0) (a4 := t1) hx hb hml hown hts hK hP hD hX 5 (by decide) hS hA (aDk ad ty hv σ _ κc cs (by decide)) (Nat.le_of_ble_eq_true rfl) (Nat.le_of_ble_eq_true rfl) hl.1 (Nat.le_of_ble_eq_true rfl) ⟨Nat.le_of_ble_eq_true rfl, Nat.le_of_ble_eq_true rfl⟩ dX1_lists_130 (fun H locs hP hD hS => ?_)
                                            rw [aDk_set ad ty hv σ _ κc cs (show 5 < 7 by decide)] at hP hD
                                            refine lv_aload_n hx hb dX1_lists_133 rfl (lv_at hl 7 rfl) ?_
                                            refine kM (va_runV (As := [.ref (ad 37), .ref (ad 8)]) (rest := []) ⟨hx, hb, hml, hown, hts⟩ (m_tries_5N l G ad ty hv σ (up (up (up ς 0 ge) 1 gf) 2 (sc (nc))) (setk κc 5 (s1) (r1) (y57_0) (t1)) cs hW hWT hlgT ⟨hs1a, by show s1 ≤ 7; omega, hr1a, by show r1 ≤ 1; omega, hb0, hb4, ht1a, by show t1 ≤ 4; omega⟩ ⟨hnc, by show nc < 400; have := ib_c r1 t1 5; omega⟩ H.size) (cwV 2 hts (lw_V q553 q555 qs21 q76 q556) rfl rfl rfl (by decide +kernel) ⟨Nat.le_of_ble_eq_true rfl, Nat.le_of_ble_eq_true rfl⟩) (pvM (r := (RX1, TX1, 21)) hK hP hD hX 0 (aD_0 _ _ _ _ _ _ _) rfl) rfl rfl hl.1 rfl (lv_room (Nat.le_of_ble_eq_true rfl)) dX1_lists_134 ⟨Nat.le_of_ble_eq_true rfl, Nat.le_of_ble_eq_true rfl⟩) hD hS hA (fun v ws1 H locs hv hP hD hS => ?_)
                                            obtain ⟨gg, gh, nd, rfl, rfl, hadd⟩ := hv
                                            change (mnOk σ (σ 6) (σ 7) 5 s1 r1 y57_0 t1 ∧ gg = ug ge nc (50000 + 1000 * s1 + 100 * r1 + 10 * y57_0 + t1) ∧ gh = ug gf nc (mnV σ 5 s1 y57_0 t1) ∧ nd = nc + 1) ∨ (¬ mnOk σ (σ 6) (σ 7) 5 s1 r1 y57_0 t1 ∧ gg = ge ∧ gh = gf ∧ nd = nc) at hadd
                                            have hLd : LI (lgl σ (σ 6) (σ 7)) (mvV σ) gg gh nd ((50000 + 1000 * s1 + 100 * r1) + 10 * y57_0 + (t1 + 1)) := LI_mv hadd hLe (by omega) (by omega) (by omega) (by omega) (by omega) (by omega) (by omega) (by omega) (by omega) (by omega)
                                            have hnd : nc ≤ nd ∧ nd ≤ nc + 1 ∧ (nd = nc ∨ r1 = 0) := by
                                              rcases hadd with ⟨q1, -, -, q2⟩ | ⟨-, -, -, q2⟩
                                              · have q3 := (mnOk_5.mp q1).2.1; omega
                                              · omega
                                            have hP : va_P G gcl (wD ad ty hv σ (up (up (up ς 0 gg) 1 gh) 2 (sc (nd))) (setk κc 5 (s1) (r1) (y57_0) (t1)) ++ cs) H := hP
                                            have hD : va_D A (wD ad ty hv σ (up (up (up ς 0 gg) 1 gh) 2 (sc (nd))) (setk κc 5 (s1) (r1) (y57_0) (t1)) ++ cs) := hD
                                            refine li_iinc (a := t1) (lv' := [(7, .int (ii (t1 + 1))), (6, .int (ii y57_0)), (5, .int (ii r1)), (4, .int (ii zl)), (3, .int (ii s1)), (2, .int (ii 5)), (0, .ref (ad 0)), (1, .ref (ad 8))]) hx hb dX1_lists_137 hl (k := 0) rfl (by decide) rfl (fun ls hl => ?_)
                                            refine lv_goto (tgt := 94) hx hb dX1_lists_140 (by decide) ?_
                                            exact ih (t1 + 1) (setk κc 5 (s1) (r1) (y57_0) (t1)) gg gh nd (by omega) (by omega) (by omega) (by have := ib_c r1 t1 5; have := ib_c r1 (t1 + 1) 5; omega) (.inl ⟨hb0, hb4, hLd⟩) (by omega) H locs hP hD hS ls (lv_sub hl [0, 1, 2, 3, 4, 5, 6, 7] rfl)
                                      · refine li_if_eq (tgt := 143) hx hb ⟨by decide, by decide⟩ dX1_lists_101 (by decide) (fun c101 => ?_) (fun c101 => ?_)
                                        · exact X94 t1 κc ge gf nc (by omega) (by have := ib_c r1 t1 5; have := ib_c (r1 + 1) 0 5; omega) (by rcases hLc with ⟨q1, q2, q3⟩ | ⟨q1, q2, q3⟩; exact LI_skip q3 (by omega) (by omega) (fun x a c h => by have h1 := hfrom x h (by omega) (by omega); have h2 := lgl_to h; omega); exact LI_skip q3 (by omega) (by omega) (fun x a c h => by have h1 := hfrom x h (by omega) (by omega); have := lgl_fr h; omega)) H locs hP hD hS ls (lv_sub hl [2, 3, 4, 5, 6, 7] rfl)
                                        · exact absurd c101 (by decide)
                                  exact L94 _ 0 κb gc gd nb (by omega) (by omega) (by omega) (by have := ib_c r1 0 5; omega) (by rcases Classical.em (0 ≤ y57_0 ∧ y57_0 ≤ 4) with e | e; exact .inl ⟨e.1, e.2, LI_skip hLb (by omega) (by omega) (fun x a c h => by have := hfrom x h (by omega) (by omega); omega)⟩; exact .inr ⟨e, rfl, hLb⟩) (Nat.lt_succ_self _) H locs hP hD hS ls (lv_sub hl [0, 1, 2, 3, 4, 5, 6, 7] rfl)
                                refine li_if_ne (tgt := 87) hx hb ⟨by omega, by omega⟩ dX1_lists_57 (by decide) (fun c57 => ?_) (fun c57 => ?_)
                                · refine lv_iload hx hb dX1_lists_87 (lv_at hl 1 rfl) ?_
                                  exact J57 _ (⟨by unfold beg; omega, by omega, by omega⟩) H locs hP hD hS ls (lv_sub hl [0, 1, 2, 3, 4, 5] rfl)
                                · refine lv_iload hx hb dX1_lists_60 (lv_at hl 0 rfl) ?_
                                  refine lv_aload_n hx hb dX1_lists_62 rfl (lv_at hl 4 rfl) ?_
                                  refine va_get (D := G) (ci := 0) (v := .ref (ad 1)) (C := RX1) (T := TX1) (N := 21) hx hb hts in_X1 hown hK hP 0 (aD_0 _ _ _ _ _ _ _) rfl 0 (by decide) (hts _ q977) (fun _ h9 => h9) rfl dX1_lists_63 ?_
                                  refine va_get (D := G) (ci := 1) (v := .int (ii (σ 10 0))) (C := RX2) (T := TX2) (N := 13) hx hb hts in_X2 hown hK hP 1 (aD_1 _ _ _ _ _ _ _) rfl 8 (by decide) (hts _ q801) (fun _ h9 => h9) rfl dX1_lists_66 ?_
                                  refine li_icmp_ge (tgt := 82) hx hb ⟨by omega, by omega⟩ (rgi h10a h10b) dX1_lists_69 (by decide) (fun c69 => ?_) (fun c69 => ?_)
                                  · refine li_bipush hx hb dX1_lists_82 (by decide) ?_
                                    refine lv_goto (tgt := 89) hx hb dX1_lists_84 (by decide) ?_
                                    exact J57 _ (⟨by unfold beg; omega, by omega, by omega⟩) H locs hP hD hS ls (lv_sub hl [0, 1, 2, 3, 4, 5] rfl)
                                  · refine lv_aload_n hx hb dX1_lists_72 rfl (lv_at hl 5 rfl) ?_
                                    refine va_get (D := G) (ci := 2) (v := .ref (ad 10)) (C := RX3) (T := TX3) (N := 2) hx hb hts in_X3 hown hK hP 8 (aD_8 _ _ _ _ _ _ _) rfl 1 (by decide) (hts _ q664) (fun _ h9 => h9) rfl dX1_lists_73 ?_
                                    refine lv_iload hx hb dX1_lists_76 (lv_at hl 0 rfl) ?_
                                    refine li_iald (g := (σ 7)) hx hb hK hP 10 0 (aD_10 _ _ _ _ _ _ _) rfl (by omega) (by omega) (by decide) dX1_lists_78 ?_
                                    have r79 := hs1 r1
                                    refine lv_goto (tgt := 89) hx hb dX1_lists_79 (by decide) ?_
                                    exact J57 _ (⟨by unfold beg; omega, by omega, by omega⟩) H locs hP hD hS ls (lv_sub hl [0, 1, 2, 3, 4, 5] rfl)
                              · refine lv_iload hx hb dX1_lists_51 (lv_at hl 0 rfl) ?_
                                refine li_if_ne (tgt := 149) hx hb ⟨by omega, by omega⟩ dX1_lists_53 (by decide) (fun c53 => ?_) (fun c53 => ?_)
                                · exact X39 r1 κb gc gd nb (by omega) (by have := ib_c r1 0 5; omega) (LI_skip hLb (by omega) (by omega) (fun x a c => lgl_rope_b h10a h10b (by omega) (by omega) (by omega) (by omega) (by omega))) H locs hP hD hS ls (lv_sub hl [2, 3, 4, 5] rfl)
                                · refine lv_iload_n hx hb dX1_lists_56 rfl (lv_at hl 2 rfl) ?_
                                  have J57 : ∀ (y57_0 : Int) (_ : beg σ (σ 7) zl s1 r1 y57_0 ∧ -4 ≤ y57_0 ∧ y57_0 ≤ 5) (H : Heap) (locs : List Loc) (_ : va_P G gcl (wD ad ty hv σ (up (up (up ς 0 gc) 1 gd) 2 (sc (nb))) κb ++ cs) H) (_ : va_D A (wD ad ty hv σ (up (up (up ς 0 gc) 1 gd) 2 (sc (nb))) κb ++ cs)) (_ : va_S A s.heap H locs) (ls : Array Slot), lv_has ls 8 [(5, .int (ii r1)), (4, .int (ii zl)), (3, .int (ii s1)), (2, .int (ii 5)), (0, .ref (ad 0)), (1, .ref (ad 8))] → W p l e (rm4 4 0 0 93) s m args below meth c H locs 0 0 Q (F0 m 89 ls [.int (ii y57_0)]) := by
                                    intro y57_0 hj57 H locs hP hD hS ls hl
                                    refine lv_istore (lv' := [(6, .int (ii y57_0)), (5, .int (ii r1)), (4, .int (ii zl)), (3, .int (ii s1)), (2, .int (ii 5)), (0, .ref (ad 0)), (1, .ref (ad 8))]) hx hb dX1_lists_89 hl (by decide) rfl (fun ls hl => ?_)
                                    have hfrom : ∀ x, lgl σ (σ 6) (σ 7) x → (50000 + 1000 * s1 + 100 * r1) ≤ x → x < (50000 + 1000 * s1 + 100 * r1) + 100 → x / 10 % 10 = y57_0 := fun x h a c => lgl_from h (k := 5) (s := s1) (r := r1) (by omega) (by omega) (by omega) hzl2 hj57.1
                                    refine li_iconst hx hb dX1_lists_91 ?_
                                    refine lv_istore (lv' := [(7, .int (ii 0)), (6, .int (ii y57_0)), (5, .int (ii r1)), (4, .int (ii zl)), (3, .int (ii s1)), (2, .int (ii 5)), (0, .ref (ad 0)), (1, .ref (ad 8))]) hx hb dX1_lists_92 hl (by decide) rfl (fun ls hl => ?_)
                                    have X94 : ∀ (t1 : Int) (κc : mem) (ge : Int → Int) (gf : Int → Int) (nc : Int) (_ : 0 ≤ nc) (_ : nc ≤ 280 + 5 * s1 + ib (r1 + 1) 0 5) (_ : LI (lgl σ (σ 6) (σ 7)) (mvV σ) ge gf nc ((50000 + 1000 * s1 + 100 * r1) + 100)) (H : Heap) (locs : List Loc) (_ : va_P G gcl (wD ad ty hv σ (up (up (up ς 0 ge) 1 gf) 2 (sc (nc))) κc ++ cs) H) (_ : va_D A (wD ad ty hv σ (up (up (up ς 0 ge) 1 gf) 2 (sc (nc))) κc ++ cs)) (_ : va_S A s.heap H locs) (ls : Array Slot), lv_has ls 8 [(5, .int (ii r1)), (4, .int (ii zl)), (3, .int (ii s1)), (2, .int (ii 5)), (0, .ref (ad 0)), (1, .ref (ad 8))] → W p l e (rm4 4 0 0 93) s m args below meth c H locs 0 0 Q (F0 m 143 ls []) := by
                                      intro t1 κc ge gf nc hnc hBc hLz H locs hP hD hS ls hl
                                      refine li_iinc (a := r1) (lv' := [(5, .int (ii (r1 + 1))), (4, .int (ii zl)), (3, .int (ii s1)), (2, .int (ii 5)), (0, .ref (ad 0)), (1, .ref (ad 8))]) hx hb dX1_lists_143 hl (k := 0) rfl (by decide) rfl (fun ls hl => ?_)
                                      refine lv_goto (tgt := 39) hx hb dX1_lists_146 (by decide) ?_
                                      exact ih (r1 + 1) κc ge gf nc (by omega) (by omega) (by omega) (hBc) (by rw [show (50000 + 1000 * s1 + 100 * (r1 + 1)) = 50000 + 1000 * s1 + 100 * r1 + 100 by omega]; exact hLz) (by omega) H locs hP hD hS ls (lv_sub hl [0, 1, 2, 3, 4, 5] rfl)
                                    have L94 : ∀ (n : Nat) (t1 : Int) (κc : mem) (ge : Int → Int) (gf : Int → Int) (nc : Int) (_ : 0 ≤ t1) (_ : t1 ≤ σ 8 0) (_ : 0 ≤ nc) (_ : nc ≤ 280 + 5 * s1 + ib r1 t1 5) (_ : LQ (lgl σ (σ 6) (σ 7)) (mvV σ) ge gf nc ((50000 + 1000 * s1 + 100 * r1) + 10 * y57_0 + t1) (50000 + 1000 * s1 + 100 * r1) t1 y57_0) (_ : (5 - t1).toNat < n) (H : Heap) (locs : List Loc) (_ : va_P G gcl (wD ad ty hv σ (up (up (up ς 0 ge) 1 gf) 2 (sc (nc))) κc ++ cs) H) (_ : va_D A (wD ad ty hv σ (up (up (up ς 0 ge) 1 gf) 2 (sc (nc))) κc ++ cs)) (_ : va_S A s.heap H locs) (ls : Array Slot), lv_has ls 8 [(7, .int (ii t1)), (6, .int (ii y57_0)), (5, .int (ii r1)), (4, .int (ii zl)), (3, .int (ii s1)), (2, .int (ii 5)), (0, .ref (ad 0)), (1, .ref (ad 8))] → W p l e (rm4 4 0 0 93) s m args below meth c H locs 0 0 Q (F0 m 94 ls []) := by
                                      intro n
                                      induction n with
                                      | zero =>
                                        intro t1 κc ge gf nc ht1a ht1b hnc hBc hLc hm
                                        exact absurd hm (Nat.not_lt_zero _)
                                      | succ n ih =>
                                        intro t1 κc ge gf nc ht1a ht1b hnc hBc hLc hm H locs hP hD hS ls hl
                                        refine lv_iload hx hb dX1_lists_94 (lv_at hl 1 rfl) ?_
                                        refine li_iconst hx hb dX1_lists_96 ?_
                                        refine li_iconst hx hb dX1_lists_97 ?_
                                        refine kR (va_runS (As := [.int (ii y57_0), .int (ii 0), .int (ii 4)]) (rest := []) ⟨hx, hb, hml, hown, hts⟩ (m_isIn l G ty (wD ad ty hv σ (up (up (up ς 0 ge) 1 gf) 2 (sc (nc))) κc ++ cs) y57_0 0 4 ⟨by omega, by omega⟩ ⟨by decide, by decide⟩ ⟨by decide, by decide⟩) (va_cwS 3 hts (lw_S q117 q118 q76 q119) rfl rfl rfl (by decide +kernel) ⟨Nat.le_of_ble_eq_true rfl, Nat.le_of_ble_eq_true rfl⟩) (psR hK hP hD hX) rfl rfl hl.1 rfl (lv_room (Nat.le_of_ble_eq_true rfl)) dX1_lists_98 ⟨Nat.le_of_ble_eq_true rfl, Nat.le_of_ble_eq_true rfl⟩) (fun v hv => ?_)
                                        obtain ⟨z98, rfl, ⟨rfl, h98⟩ | ⟨rfl, h98⟩⟩ := hv
                                        · refine li_if_eq (tgt := 143) hx hb ⟨by decide, by decide⟩ dX1_lists_101 (by decide) (fun c101 => ?_) (fun c101 => ?_)
                                          · exact absurd c101 (by decide)
                                          · refine lv_iload hx hb dX1_lists_104 (lv_at hl 0 rfl) ?_
                                            refine lv_aload_n hx hb dX1_lists_106 rfl (lv_at hl 6 rfl) ?_
                                            refine va_get (D := G) (ci := 0) (v := .ref (ad 1)) (C := RX1) (T := TX1) (N := 21) hx hb hts in_X1 hown hK hP 0 (aD_0 _ _ _ _ _ _ _) rfl 0 (by decide) (hts _ q977) (fun _ h9 => h9) rfl dX1_lists_107 ?_
                                            refine va_get (D := G) (ci := 1) (v := .int (ii (σ 8 0))) (C := RX2) (T := TX2) (N := 13) hx hb hts in_X2 hown hK hP 1 (aD_1 _ _ _ _ _ _ _) rfl 4 (by decide) (hts _ q785) (fun _ h9 => h9) rfl dX1_lists_110 ?_
                                            refine li_icmp_ge (tgt := 143) hx hb ⟨by omega, by omega⟩ (rgi h8a h8b) dX1_lists_113 (by decide) (fun c113 => ?_) (fun c113 => ?_)
                                            · exact X94 t1 κc ge gf nc (by omega) (by have := ib_c r1 t1 5; have := ib_c (r1 + 1) 0 5; omega) (by rcases hLc with ⟨q1, q2, q3⟩ | ⟨q1, q2, q3⟩; exact LI_skip q3 (by omega) (by omega) (fun x a c h => by have h1 := hfrom x h (by omega) (by omega); have h2 := lgl_to h; omega); exact LI_skip q3 (by omega) (by omega) (fun x a c h => by have h1 := hfrom x h (by omega) (by omega); have := lgl_fr h; omega)) H locs hP hD hS ls (lv_sub hl [2, 3, 4, 5, 6, 7] rfl)
                                            · have hb0 : 0 ≤ y57_0 := h98.1
                                              have hb4 : y57_0 ≤ 4 := h98.2
                                              have hLe := LI_in hLc ⟨hb0, hb4⟩
                                              refine lv_aload_n hx hb dX1_lists_116 rfl (lv_at hl 6 rfl) ?_
                                              refine lv_aload_n hx hb dX1_lists_117 rfl (lv_at hl 6 rfl) ?_
                                              refine va_get (D := G) (ci := 0) (v := .ref (ad 31)) (C := RX1) (T := TX1) (N := 21) hx hb hts in_X1 hown hK hP 0 (aD_0 _ _ _ _ _ _ _) rfl 4 (by decide) (hts _ q981) (fun _ h9 => h9) rfl dX1_lists_118 ?_
                                              refine lv_iload_n hx hb dX1_lists_121 rfl (lv_at hl 5 rfl) ?_
                                              refine li_aald (q := ad 37) hx hb hK hP 31 5 (aD_31 _ _ _ _ _ _ _) rfl (by decide) (by decide) (by decide) (rfl) dX1_lists_122 ?_
                                              refine lv_iload_n hx hb dX1_lists_123 rfl (lv_at hl 4 rfl) ?_
                                              refine lv_iload hx hb dX1_lists_124 (lv_at hl 2 rfl) ?_
                                              refine lv_iload hx hb dX1_lists_126 (lv_at hl 1 rfl) ?_
                                              refine lv_iload hx hb dX1_lists_128 (lv_at hl 0 rfl) ?_
                                              refine v_tells (mi := 37) (md := ad 37) (a1 := s1) (a2 := r1) (a3 := y57_0) (a4 := t1) hx hb hml hown hts hK hP hD hX 5 (by decide) hS hA (aDk ad ty hv σ _ κc cs (by decide)) (Nat.le_of_ble_eq_true rfl) (Nat.le_of_ble_eq_true rfl) hl.1 (Nat.le_of_ble_eq_true rfl) ⟨Nat.le_of_ble_eq_true rfl, Nat.le_of_ble_eq_true rfl⟩ dX1_lists_130 (fun H locs hP hD hS => ?_)
                                              rw [aDk_set ad ty hv σ _ κc cs (show 5 < 7 by decide)] at hP hD
                                              refine lv_aload_n hx hb dX1_lists_133 rfl (lv_at hl 7 rfl) ?_
                                              refine kM (va_runV (As := [.ref (ad 37), .ref (ad 8)]) (rest := []) ⟨hx, hb, hml, hown, hts⟩ (m_tries_5N l G ad ty hv σ (up (up (up ς 0 ge) 1 gf) 2 (sc (nc))) (setk κc 5 (s1) (r1) (y57_0) (t1)) cs hW hWT hlgT ⟨hs1a, by show s1 ≤ 7; omega, hr1a, by show r1 ≤ 1; omega, hb0, hb4, ht1a, by show t1 ≤ 4; omega⟩ ⟨hnc, by show nc < 400; have := ib_c r1 t1 5; omega⟩ H.size) (cwV 2 hts (lw_V q553 q555 qs21 q76 q556) rfl rfl rfl (by decide +kernel) ⟨Nat.le_of_ble_eq_true rfl, Nat.le_of_ble_eq_true rfl⟩) (pvM (r := (RX1, TX1, 21)) hK hP hD hX 0 (aD_0 _ _ _ _ _ _ _) rfl) rfl rfl hl.1 rfl (lv_room (Nat.le_of_ble_eq_true rfl)) dX1_lists_134 ⟨Nat.le_of_ble_eq_true rfl, Nat.le_of_ble_eq_true rfl⟩) hD hS hA (fun v ws1 H locs hv hP hD hS => ?_)
                                              obtain ⟨gg, gh, nd, rfl, rfl, hadd⟩ := hv
                                              change (mnOk σ (σ 6) (σ 7) 5 s1 r1 y57_0 t1 ∧ gg = ug ge nc (50000 + 1000 * s1 + 100 * r1 + 10 * y57_0 + t1) ∧ gh = ug gf nc (mnV σ 5 s1 y57_0 t1) ∧ nd = nc + 1) ∨ (¬ mnOk σ (σ 6) (σ 7) 5 s1 r1 y57_0 t1 ∧ gg = ge ∧ gh = gf ∧ nd = nc) at hadd
                                              have hLd : LI (lgl σ (σ 6) (σ 7)) (mvV σ) gg gh nd ((50000 + 1000 * s1 + 100 * r1) + 10 * y57_0 + (t1 + 1)) := LI_mv hadd hLe (by omega) (by omega) (by omega) (by omega) (by omega) (by omega) (by omega) (by omega) (by omega) (by omega)
                                              have hnd : nc ≤ nd ∧ nd ≤ nc + 1 ∧ (nd = nc ∨ r1 = 0) := by
                                                rcases hadd with ⟨q1, -, -, q2⟩ | ⟨-, -, -, q2⟩
                                                · have q3 := (mnOk_5.mp q1).2.1; omega
                                                · omega
                                              have hP : va_P G gcl (wD ad ty hv σ (up (up (up ς 0 gg) 1 gh) 2 (sc (nd))) (setk κc 5 (s1) (r1) (y57_0) (t1)) ++ cs) H := hP
                                              have hD : va_D A (wD ad ty hv σ (up (up (up ς 0 gg) 1 gh) 2 (sc (nd))) (setk κc 5 (s1) (r1) (y57_0) (t1)) ++ cs) := hD
                                              refine li_iinc (a := t1) (lv' := [(7, .int (ii (t1 + 1))), (6, .int (ii y57_0)), (5, .int (ii r1)), (4, .int (ii zl)), (3, .int (ii s1)), (2, .int (ii 5)), (0, .ref (ad 0)), (1, .ref (ad 8))]) hx hb dX1_lists_137 hl (k := 0) rfl (by decide) rfl (fun ls hl => ?_)
                                              refine lv_goto (tgt := 94) hx hb dX1_lists_140 (by decide) ?_
                                              exact ih (t1 + 1) (setk κc 5 (s1) (r1) (y57_0) (t1)) gg gh nd (by omega) (by omega) (by omega) (by have := ib_c r1 t1 5; have := ib_c r1 (t1 + 1) 5; omega) (.inl ⟨hb0, hb4, hLd⟩) (by omega) H locs hP hD hS ls (lv_sub hl [0, 1, 2, 3, 4, 5, 6, 7] rfl)
                                        · refine li_if_eq (tgt := 143) hx hb ⟨by decide, by decide⟩ dX1_lists_101 (by decide) (fun c101 => ?_) (fun c101 => ?_)
                                          · exact X94 t1 κc ge gf nc (by omega) (by have := ib_c r1 t1 5; have := ib_c (r1 + 1) 0 5; omega) (by rcases hLc with ⟨q1, q2, q3⟩ | ⟨q1, q2, q3⟩; exact LI_skip q3 (by omega) (by omega) (fun x a c h => by have h1 := hfrom x h (by omega) (by omega); have h2 := lgl_to h; omega); exact LI_skip q3 (by omega) (by omega) (fun x a c h => by have h1 := hfrom x h (by omega) (by omega); have := lgl_fr h; omega)) H locs hP hD hS ls (lv_sub hl [2, 3, 4, 5, 6, 7] rfl)
                                          · exact absurd c101 (by decide)
                                    exact L94 _ 0 κb gc gd nb (by omega) (by omega) (by omega) (by have := ib_c r1 0 5; omega) (by rcases Classical.em (0 ≤ y57_0 ∧ y57_0 ≤ 4) with e | e; exact .inl ⟨e.1, e.2, LI_skip hLb (by omega) (by omega) (fun x a c h => by have := hfrom x h (by omega) (by omega); omega)⟩; exact .inr ⟨e, rfl, hLb⟩) (Nat.lt_succ_self _) H locs hP hD hS ls (lv_sub hl [0, 1, 2, 3, 4, 5, 6, 7] rfl)
                                  refine li_if_ne (tgt := 87) hx hb ⟨by omega, by omega⟩ dX1_lists_57 (by decide) (fun c57 => ?_) (fun c57 => ?_)
                                  · refine lv_iload hx hb dX1_lists_87 (lv_at hl 1 rfl) ?_
                                    exact J57 _ (⟨by unfold beg; omega, by omega, by omega⟩) H locs hP hD hS ls (lv_sub hl [0, 1, 2, 3, 4, 5] rfl)
                                  · refine lv_iload hx hb dX1_lists_60 (lv_at hl 0 rfl) ?_
                                    refine lv_aload_n hx hb dX1_lists_62 rfl (lv_at hl 4 rfl) ?_
                                    refine va_get (D := G) (ci := 0) (v := .ref (ad 1)) (C := RX1) (T := TX1) (N := 21) hx hb hts in_X1 hown hK hP 0 (aD_0 _ _ _ _ _ _ _) rfl 0 (by decide) (hts _ q977) (fun _ h9 => h9) rfl dX1_lists_63 ?_
                                    refine va_get (D := G) (ci := 1) (v := .int (ii (σ 10 0))) (C := RX2) (T := TX2) (N := 13) hx hb hts in_X2 hown hK hP 1 (aD_1 _ _ _ _ _ _ _) rfl 8 (by decide) (hts _ q801) (fun _ h9 => h9) rfl dX1_lists_66 ?_
                                    refine li_icmp_ge (tgt := 82) hx hb ⟨by omega, by omega⟩ (rgi h10a h10b) dX1_lists_69 (by decide) (fun c69 => ?_) (fun c69 => ?_)
                                    · refine li_bipush hx hb dX1_lists_82 (by decide) ?_
                                      refine lv_goto (tgt := 89) hx hb dX1_lists_84 (by decide) ?_
                                      exact J57 _ (⟨by unfold beg; omega, by omega, by omega⟩) H locs hP hD hS ls (lv_sub hl [0, 1, 2, 3, 4, 5] rfl)
                                    · refine lv_aload_n hx hb dX1_lists_72 rfl (lv_at hl 5 rfl) ?_
                                      refine va_get (D := G) (ci := 2) (v := .ref (ad 10)) (C := RX3) (T := TX3) (N := 2) hx hb hts in_X3 hown hK hP 8 (aD_8 _ _ _ _ _ _ _) rfl 1 (by decide) (hts _ q664) (fun _ h9 => h9) rfl dX1_lists_73 ?_
                                      refine lv_iload hx hb dX1_lists_76 (lv_at hl 0 rfl) ?_
                                      refine li_iald (g := (σ 7)) hx hb hK hP 10 0 (aD_10 _ _ _ _ _ _ _) rfl (by omega) (by omega) (by decide) dX1_lists_78 ?_
                                      have r79 := hs1 r1
                                      refine lv_goto (tgt := 89) hx hb dX1_lists_79 (by decide) ?_
                                      exact J57 _ (⟨by unfold beg; omega, by omega, by omega⟩) H locs hP hD hS ls (lv_sub hl [0, 1, 2, 3, 4, 5] rfl)
                          exact L39 _ 0 κa ga gb na (by omega) (by omega) (by omega) (by have := ib_c 0 0 5; omega) (by rw [show (50000 + 1000 * s1 + 100 * (0 : Int)) = 50000 + 1000 * s1 by omega]; exact hLa) (Nat.lt_succ_self _) H locs hP hD hS ls (lv_sub hl [0, 1, 2, 3, 4, 5] rfl)
                    exact L15 _ 0 κa ga gb na (by omega) (by omega) (by omega) (by omega) (by omega) (by first | exact LI_skip (LI_0 _ _ _ _) (by decide) (by decide) (fun x a c => lgl_0 (by omega)) | (rw [show (50000 + 1000 * (0 : Int)) = 50000 by rfl]; exact hLx)) (Nat.lt_succ_self _) H locs hP hD hS ls (lv_sub hl [0, 1, 2, 3] rfl)
                have L15 : ∀ (n : Nat) (s1 : Int) (κa : mem) (ga : Int → Int) (gb : Int → Int) (na : Int) (_ : 0 ≤ s1) (_ : s1 ≤ p2 (σ 9 0)) (_ : s1 ≤ 8) (_ : 0 ≤ na) (_ : na ≤ 200 + 10 * s1) (_ : LI (lgl σ (σ 6) (σ 7)) (mvV σ) ga gb na (40000 + 1000 * s1)) (_ : (8 - s1).toNat < n) (H : Heap) (locs : List Loc) (_ : va_P G gcl (wD ad ty hv σ (up (up (up ς 0 ga) 1 gb) 2 (sc (na))) κa ++ cs) H) (_ : va_D A (wD ad ty hv σ (up (up (up ς 0 ga) 1 gb) 2 (sc (na))) κa ++ cs)) (_ : va_S A s.heap H locs) (ls : Array Slot), lv_has ls 8 [(3, .int (ii s1)), (2, .int (ii 4)), (0, .ref (ad 0)), (1, .ref (ad 8))] → W p l e (rm4 4 0 0 93) s m args below meth c H locs 0 0 Q (F0 m 15 ls []) := by
                  intro n
                  induction n with
                  | zero =>
                    intro s1 κa ga gb na hs1a hs1b hs7 hna hBa hLa hm
                    exact absurd hm (Nat.not_lt_zero _)
                  | succ n ih =>
                    intro s1 κa ga gb na hs1a hs1b hs7 hna hBa hLa hm H locs hP hD hS ls hl
                    refine lv_iload_n hx hb dX1_lists_15 rfl (lv_at hl 0 rfl) ?_
                    refine li_iconst hx hb dX1_lists_16 ?_
                    refine lv_aload_n hx hb dX1_lists_17 rfl (lv_at hl 2 rfl) ?_
                    refine va_get (D := G) (ci := 0) (v := .ref (ad 1)) (C := RX1) (T := TX1) (N := 21) hx hb hts in_X1 hown hK hP 0 (aD_0 _ _ _ _ _ _ _) rfl 0 (by decide) (hts _ q977) (fun _ h9 => h9) rfl dX1_lists_18 ?_
                    refine va_get (D := G) (ci := 1) (v := .int (ii (σ 9 0))) (C := RX2) (T := TX2) (N := 13) hx hb hts in_X2 hown hK hP 1 (aD_1 _ _ _ _ _ _ _) rfl 6 (by decide) (hts _ q790) (fun _ h9 => h9) rfl dX1_lists_21 ?_
                    refine lv_ishl hx hb dX1_lists_24 ?_
                    refine li_topx (z := p2 (σ 9 0)) (ii_shl1 h9a h9b) ?_
                    refine li_icmp_ge (tgt := 155) hx hb ⟨by omega, by omega⟩ ⟨by omega, by omega⟩ dX1_lists_25 (by decide) (fun c25 => ?_) (fun c25 => ?_)
                    · exact X15 s1 κa ga gb na (by omega) (by omega) (LI_skip hLa (by omega) (by omega) (fun x a c => lgl_set h9a h9b (by omega) (by omega))) H locs hP hD hS ls (lv_sub hl [1, 2, 3] rfl)
                    · refine lv_aload_n hx hb dX1_lists_28 rfl (lv_at hl 2 rfl) ?_
                      refine lv_iload_n hx hb dX1_lists_29 rfl (lv_at hl 0 rfl) ?_
                      refine lv_aload_n hx hb dX1_lists_30 rfl (lv_at hl 3 rfl) ?_
                      refine kR (va_runV (As := [.int (ii s1), .ref (ad 8)]) (rest := []) ⟨hx, hb, hml, hown, hts⟩ (m_ledgeOfN l G ad ty hv σ (up (up (up ς 0 ga) 1 gb) 2 (sc (na))) κa cs s1 hW hWT ⟨by omega, by omega⟩) (cwV 2 hts (lw_V q549 q551 qs20 q76 q552) rfl rfl rfl (by decide +kernel) ⟨Nat.le_of_ble_eq_true rfl, Nat.le_of_ble_eq_true rfl⟩) (pvR (r := (RX1, TX1, 21)) hK hP hD hX 0 (aD_0 _ _ _ _ _ _ _) rfl) rfl rfl hl.1 rfl (lv_room (Nat.le_of_ble_eq_true rfl)) dX1_lists_31 ⟨Nat.le_of_ble_eq_true rfl, Nat.le_of_ble_eq_true rfl⟩) (fun v hv => ?_)
                      obtain ⟨zl, rfl, hzl, hzl2⟩ := hv
                      replace hzl : -4 ≤ zl ∧ zl ≤ 4 := by omega
                      refine lv_istore (lv' := [(4, .int (ii zl)), (3, .int (ii s1)), (2, .int (ii 4)), (0, .ref (ad 0)), (1, .ref (ad 8))]) hx hb dX1_lists_34 hl (by decide) rfl (fun ls hl => ?_)
                      refine li_iconst hx hb dX1_lists_36 ?_
                      refine lv_istore (lv' := [(5, .int (ii 0)), (4, .int (ii zl)), (3, .int (ii s1)), (2, .int (ii 4)), (0, .ref (ad 0)), (1, .ref (ad 8))]) hx hb dX1_lists_37 hl (by decide) rfl (fun ls hl => ?_)
                      have X39 : ∀ (r1 : Int) (κb : mem) (gc : Int → Int) (gd : Int → Int) (nb : Int) (_ : 0 ≤ nb) (_ : nb ≤ 200 + 10 * (s1 + 1)) (_ : LI (lgl σ (σ 6) (σ 7)) (mvV σ) gc gd nb (40000 + 1000 * s1 + 1000)) (H : Heap) (locs : List Loc) (_ : va_P G gcl (wD ad ty hv σ (up (up (up ς 0 gc) 1 gd) 2 (sc (nb))) κb ++ cs) H) (_ : va_D A (wD ad ty hv σ (up (up (up ς 0 gc) 1 gd) 2 (sc (nb))) κb ++ cs)) (_ : va_S A s.heap H locs) (ls : Array Slot), lv_has ls 8 [(3, .int (ii s1)), (2, .int (ii 4)), (0, .ref (ad 0)), (1, .ref (ad 8))] → W p l e (rm4 4 0 0 93) s m args below meth c H locs 0 0 Q (F0 m 149 ls []) := by
                        intro r1 κb gc gd nb hnb hBb hLy H locs hP hD hS ls hl
                        refine li_iinc (a := s1) (lv' := [(3, .int (ii (s1 + 1))), (2, .int (ii 4)), (0, .ref (ad 0)), (1, .ref (ad 8))]) hx hb dX1_lists_149 hl (k := 0) rfl (by decide) rfl (fun ls hl => ?_)
                        refine lv_goto (tgt := 15) hx hb dX1_lists_152 (by decide) ?_
                        exact ih (s1 + 1) κb gc gd nb (by omega) (by omega) (by omega) (by omega) (hBb) (by rw [show (40000 + 1000 * (s1 + 1)) = 40000 + 1000 * s1 + 1000 by omega]; exact hLy) (by omega) H locs hP hD hS ls (lv_sub hl [0, 1, 2, 3] rfl)
                      have L39 : ∀ (n : Nat) (r1 : Int) (κb : mem) (gc : Int → Int) (gd : Int → Int) (nb : Int) (_ : 0 ≤ r1) (_ : r1 ≤ 2) (_ : 0 ≤ nb) (_ : nb ≤ 200 + 10 * s1 + 5 * r1) (_ : LI (lgl σ (σ 6) (σ 7)) (mvV σ) gc gd nb (40000 + 1000 * s1 + 100 * r1)) (_ : (2 - r1).toNat < n) (H : Heap) (locs : List Loc) (_ : va_P G gcl (wD ad ty hv σ (up (up (up ς 0 gc) 1 gd) 2 (sc (nb))) κb ++ cs) H) (_ : va_D A (wD ad ty hv σ (up (up (up ς 0 gc) 1 gd) 2 (sc (nb))) κb ++ cs)) (_ : va_S A s.heap H locs) (ls : Array Slot), lv_has ls 8 [(5, .int (ii r1)), (4, .int (ii zl)), (3, .int (ii s1)), (2, .int (ii 4)), (0, .ref (ad 0)), (1, .ref (ad 8))] → W p l e (rm4 4 0 0 93) s m args below meth c H locs 0 0 Q (F0 m 39 ls []) := by
                        intro n
                        induction n with
                        | zero =>
                          intro r1 κb gc gd nb hr1a hr1b hnb hBb hLb hm
                          exact absurd hm (Nat.not_lt_zero _)
                        | succ n ih =>
                          intro r1 κb gc gd nb hr1a hr1b hnb hBb hLb hm H locs hP hD hS ls hl
                          refine lv_iload hx hb dX1_lists_39 (lv_at hl 0 rfl) ?_
                          refine lv_aload_n hx hb dX1_lists_41 rfl (lv_at hl 4 rfl) ?_
                          refine va_get (D := G) (ci := 0) (v := .ref (ad 1)) (C := RX1) (T := TX1) (N := 21) hx hb hts in_X1 hown hK hP 0 (aD_0 _ _ _ _ _ _ _) rfl 0 (by decide) (hts _ q977) (fun _ h9 => h9) rfl dX1_lists_42 ?_
                          refine va_get (D := G) (ci := 1) (v := .int (ii (σ 10 0))) (C := RX2) (T := TX2) (N := 13) hx hb hts in_X2 hown hK hP 1 (aD_1 _ _ _ _ _ _ _) rfl 8 (by decide) (hts _ q801) (fun _ h9 => h9) rfl dX1_lists_45 ?_
                          refine li_icmp_lt (tgt := 56) hx hb ⟨by omega, by omega⟩ (rgi h10a h10b) dX1_lists_48 (by decide) (fun c48 => ?_) (fun c48 => ?_)
                          · refine lv_iload_n hx hb dX1_lists_56 rfl (lv_at hl 2 rfl) ?_
                            have J57 : ∀ (y57_0 : Int) (_ : beg σ (σ 7) zl s1 r1 y57_0 ∧ -4 ≤ y57_0 ∧ y57_0 ≤ 5) (H : Heap) (locs : List Loc) (_ : va_P G gcl (wD ad ty hv σ (up (up (up ς 0 gc) 1 gd) 2 (sc (nb))) κb ++ cs) H) (_ : va_D A (wD ad ty hv σ (up (up (up ς 0 gc) 1 gd) 2 (sc (nb))) κb ++ cs)) (_ : va_S A s.heap H locs) (ls : Array Slot), lv_has ls 8 [(5, .int (ii r1)), (4, .int (ii zl)), (3, .int (ii s1)), (2, .int (ii 4)), (0, .ref (ad 0)), (1, .ref (ad 8))] → W p l e (rm4 4 0 0 93) s m args below meth c H locs 0 0 Q (F0 m 89 ls [.int (ii y57_0)]) := by
                              intro y57_0 hj57 H locs hP hD hS ls hl
                              refine lv_istore (lv' := [(6, .int (ii y57_0)), (5, .int (ii r1)), (4, .int (ii zl)), (3, .int (ii s1)), (2, .int (ii 4)), (0, .ref (ad 0)), (1, .ref (ad 8))]) hx hb dX1_lists_89 hl (by decide) rfl (fun ls hl => ?_)
                              have hfrom : ∀ x, lgl σ (σ 6) (σ 7) x → (40000 + 1000 * s1 + 100 * r1) ≤ x → x < (40000 + 1000 * s1 + 100 * r1) + 100 → x / 10 % 10 = y57_0 := fun x h a c => lgl_from h (k := 4) (s := s1) (r := r1) (by omega) (by omega) (by omega) hzl2 hj57.1
                              refine li_iconst hx hb dX1_lists_91 ?_
                              refine lv_istore (lv' := [(7, .int (ii 0)), (6, .int (ii y57_0)), (5, .int (ii r1)), (4, .int (ii zl)), (3, .int (ii s1)), (2, .int (ii 4)), (0, .ref (ad 0)), (1, .ref (ad 8))]) hx hb dX1_lists_92 hl (by decide) rfl (fun ls hl => ?_)
                              have X94 : ∀ (t1 : Int) (κc : mem) (ge : Int → Int) (gf : Int → Int) (nc : Int) (_ : 0 ≤ nc) (_ : nc ≤ 200 + 10 * s1 + 5 * (r1 + 1)) (_ : LI (lgl σ (σ 6) (σ 7)) (mvV σ) ge gf nc ((40000 + 1000 * s1 + 100 * r1) + 100)) (H : Heap) (locs : List Loc) (_ : va_P G gcl (wD ad ty hv σ (up (up (up ς 0 ge) 1 gf) 2 (sc (nc))) κc ++ cs) H) (_ : va_D A (wD ad ty hv σ (up (up (up ς 0 ge) 1 gf) 2 (sc (nc))) κc ++ cs)) (_ : va_S A s.heap H locs) (ls : Array Slot), lv_has ls 8 [(5, .int (ii r1)), (4, .int (ii zl)), (3, .int (ii s1)), (2, .int (ii 4)), (0, .ref (ad 0)), (1, .ref (ad 8))] → W p l e (rm4 4 0 0 93) s m args below meth c H locs 0 0 Q (F0 m 143 ls []) := by
                                intro t1 κc ge gf nc hnc hBc hLz H locs hP hD hS ls hl
                                refine li_iinc (a := r1) (lv' := [(5, .int (ii (r1 + 1))), (4, .int (ii zl)), (3, .int (ii s1)), (2, .int (ii 4)), (0, .ref (ad 0)), (1, .ref (ad 8))]) hx hb dX1_lists_143 hl (k := 0) rfl (by decide) rfl (fun ls hl => ?_)
                                refine lv_goto (tgt := 39) hx hb dX1_lists_146 (by decide) ?_
                                exact ih (r1 + 1) κc ge gf nc (by omega) (by omega) (by omega) (hBc) (by rw [show (40000 + 1000 * s1 + 100 * (r1 + 1)) = 40000 + 1000 * s1 + 100 * r1 + 100 by omega]; exact hLz) (by omega) H locs hP hD hS ls (lv_sub hl [0, 1, 2, 3, 4, 5] rfl)
                              have L94 : ∀ (n : Nat) (t1 : Int) (κc : mem) (ge : Int → Int) (gf : Int → Int) (nc : Int) (_ : 0 ≤ t1) (_ : t1 ≤ σ 8 0) (_ : 0 ≤ nc) (_ : nc ≤ 200 + 10 * s1 + 5 * r1 + t1) (_ : LQ (lgl σ (σ 6) (σ 7)) (mvV σ) ge gf nc ((40000 + 1000 * s1 + 100 * r1) + 10 * y57_0 + t1) (40000 + 1000 * s1 + 100 * r1) t1 y57_0) (_ : (5 - t1).toNat < n) (H : Heap) (locs : List Loc) (_ : va_P G gcl (wD ad ty hv σ (up (up (up ς 0 ge) 1 gf) 2 (sc (nc))) κc ++ cs) H) (_ : va_D A (wD ad ty hv σ (up (up (up ς 0 ge) 1 gf) 2 (sc (nc))) κc ++ cs)) (_ : va_S A s.heap H locs) (ls : Array Slot), lv_has ls 8 [(7, .int (ii t1)), (6, .int (ii y57_0)), (5, .int (ii r1)), (4, .int (ii zl)), (3, .int (ii s1)), (2, .int (ii 4)), (0, .ref (ad 0)), (1, .ref (ad 8))] → W p l e (rm4 4 0 0 93) s m args below meth c H locs 0 0 Q (F0 m 94 ls []) := by
                                intro n
                                induction n with
                                | zero =>
                                  intro t1 κc ge gf nc ht1a ht1b hnc hBc hLc hm
                                  exact absurd hm (Nat.not_lt_zero _)
                                | succ n ih =>
                                  intro t1 κc ge gf nc ht1a ht1b hnc hBc hLc hm H locs hP hD hS ls hl
                                  refine lv_iload hx hb dX1_lists_94 (lv_at hl 1 rfl) ?_
                                  refine li_iconst hx hb dX1_lists_96 ?_
                                  refine li_iconst hx hb dX1_lists_97 ?_
                                  refine kR (va_runS (As := [.int (ii y57_0), .int (ii 0), .int (ii 4)]) (rest := []) ⟨hx, hb, hml, hown, hts⟩ (m_isIn l G ty (wD ad ty hv σ (up (up (up ς 0 ge) 1 gf) 2 (sc (nc))) κc ++ cs) y57_0 0 4 ⟨by omega, by omega⟩ ⟨by decide, by decide⟩ ⟨by decide, by decide⟩) (va_cwS 3 hts (lw_S q117 q118 q76 q119) rfl rfl rfl (by decide +kernel) ⟨Nat.le_of_ble_eq_true rfl, Nat.le_of_ble_eq_true rfl⟩) (psR hK hP hD hX) rfl rfl hl.1 rfl (lv_room (Nat.le_of_ble_eq_true rfl)) dX1_lists_98 ⟨Nat.le_of_ble_eq_true rfl, Nat.le_of_ble_eq_true rfl⟩) (fun v hv => ?_)
                                  obtain ⟨z98, rfl, ⟨rfl, h98⟩ | ⟨rfl, h98⟩⟩ := hv
                                  · refine li_if_eq (tgt := 143) hx hb ⟨by decide, by decide⟩ dX1_lists_101 (by decide) (fun c101 => ?_) (fun c101 => ?_)
                                    · exact absurd c101 (by decide)
                                    · refine lv_iload hx hb dX1_lists_104 (lv_at hl 0 rfl) ?_
                                      refine lv_aload_n hx hb dX1_lists_106 rfl (lv_at hl 6 rfl) ?_
                                      refine va_get (D := G) (ci := 0) (v := .ref (ad 1)) (C := RX1) (T := TX1) (N := 21) hx hb hts in_X1 hown hK hP 0 (aD_0 _ _ _ _ _ _ _) rfl 0 (by decide) (hts _ q977) (fun _ h9 => h9) rfl dX1_lists_107 ?_
                                      refine va_get (D := G) (ci := 1) (v := .int (ii (σ 8 0))) (C := RX2) (T := TX2) (N := 13) hx hb hts in_X2 hown hK hP 1 (aD_1 _ _ _ _ _ _ _) rfl 4 (by decide) (hts _ q785) (fun _ h9 => h9) rfl dX1_lists_110 ?_
                                      refine li_icmp_ge (tgt := 143) hx hb ⟨by omega, by omega⟩ (rgi h8a h8b) dX1_lists_113 (by decide) (fun c113 => ?_) (fun c113 => ?_)
                                      · exact X94 t1 κc ge gf nc (by omega) (by omega) (by rcases hLc with ⟨q1, q2, q3⟩ | ⟨q1, q2, q3⟩; exact LI_skip q3 (by omega) (by omega) (fun x a c h => by have h1 := hfrom x h (by omega) (by omega); have h2 := lgl_to h; omega); exact LI_skip q3 (by omega) (by omega) (fun x a c h => by have h1 := hfrom x h (by omega) (by omega); have := lgl_fr h; omega)) H locs hP hD hS ls (lv_sub hl [2, 3, 4, 5, 6, 7] rfl)
                                      · have hb0 : 0 ≤ y57_0 := h98.1
                                        have hb4 : y57_0 ≤ 4 := h98.2
                                        have hLe := LI_in hLc ⟨hb0, hb4⟩
                                        refine lv_aload_n hx hb dX1_lists_116 rfl (lv_at hl 6 rfl) ?_
                                        refine lv_aload_n hx hb dX1_lists_117 rfl (lv_at hl 6 rfl) ?_
                                        refine va_get (D := G) (ci := 0) (v := .ref (ad 31)) (C := RX1) (T := TX1) (N := 21) hx hb hts in_X1 hown hK hP 0 (aD_0 _ _ _ _ _ _ _) rfl 4 (by decide) (hts _ q981) (fun _ h9 => h9) rfl dX1_lists_118 ?_
                                        refine lv_iload_n hx hb dX1_lists_121 rfl (lv_at hl 5 rfl) ?_
                                        refine li_aald (q := ad 36) hx hb hK hP 31 5 (aD_31 _ _ _ _ _ _ _) rfl (by decide) (by decide) (by decide) (rfl) dX1_lists_122 ?_
                                        refine lv_iload_n hx hb dX1_lists_123 rfl (lv_at hl 4 rfl) ?_
                                        refine lv_iload hx hb dX1_lists_124 (lv_at hl 2 rfl) ?_
                                        refine lv_iload hx hb dX1_lists_126 (lv_at hl 1 rfl) ?_
                                        refine lv_iload hx hb dX1_lists_128 (lv_at hl 0 rfl) ?_
                                        refine v_tells (mi := 36) (md := ad 36) (a1 := s1) (a2 := r1) (a3 := y57_0) (a4 := t1) hx hb hml hown hts hK hP hD hX 4 (by decide) hS hA (aDk ad ty hv σ _ κc cs (by decide)) (Nat.le_of_ble_eq_true rfl) (Nat.le_of_ble_eq_true rfl) hl.1 (Nat.le_of_ble_eq_true rfl) ⟨Nat.le_of_ble_eq_true rfl, Nat.le_of_ble_eq_true rfl⟩ dX1_lists_130 (fun H locs hP hD hS => ?_)
                                        rw [aDk_set ad ty hv σ _ κc cs (show 4 < 7 by decide)] at hP hD
                                        refine lv_aload_n hx hb dX1_lists_133 rfl (lv_at hl 7 rfl) ?_
                                        refine kM (va_runV (As := [.ref (ad 36), .ref (ad 8)]) (rest := []) ⟨hx, hb, hml, hown, hts⟩ (m_tries_4N l G ad ty hv σ (up (up (up ς 0 ge) 1 gf) 2 (sc (nc))) (setk κc 4 (s1) (r1) (y57_0) (t1)) cs hW hWT hlgT ⟨hs1a, by show s1 ≤ 7; omega, hr1a, by show r1 ≤ 1; omega, hb0, hb4, ht1a, by show t1 ≤ 4; omega⟩ ⟨hnc, by show nc < 400; omega⟩ H.size) (cwV 2 hts (lw_V q553 q555 qs21 q76 q556) rfl rfl rfl (by decide +kernel) ⟨Nat.le_of_ble_eq_true rfl, Nat.le_of_ble_eq_true rfl⟩) (pvM (r := (RX1, TX1, 21)) hK hP hD hX 0 (aD_0 _ _ _ _ _ _ _) rfl) rfl rfl hl.1 rfl (lv_room (Nat.le_of_ble_eq_true rfl)) dX1_lists_134 ⟨Nat.le_of_ble_eq_true rfl, Nat.le_of_ble_eq_true rfl⟩) hD hS hA (fun v ws1 H locs hv hP hD hS => ?_)
                                        obtain ⟨gg, gh, nd, rfl, rfl, hadd⟩ := hv
                                        change (mnOk σ (σ 6) (σ 7) 4 s1 r1 y57_0 t1 ∧ gg = ug ge nc (40000 + 1000 * s1 + 100 * r1 + 10 * y57_0 + t1) ∧ gh = ug gf nc (mnV σ 4 s1 y57_0 t1) ∧ nd = nc + 1) ∨ (¬ mnOk σ (σ 6) (σ 7) 4 s1 r1 y57_0 t1 ∧ gg = ge ∧ gh = gf ∧ nd = nc) at hadd
                                        have hLd : LI (lgl σ (σ 6) (σ 7)) (mvV σ) gg gh nd ((40000 + 1000 * s1 + 100 * r1) + 10 * y57_0 + (t1 + 1)) := LI_mv hadd hLe (by omega) (by omega) (by omega) (by omega) (by omega) (by omega) (by omega) (by omega) (by omega) (by omega)
                                        have hnd : nc ≤ nd ∧ nd ≤ nc + 1 := by
                                          rcases hadd with ⟨q1, -, -, q2⟩ | ⟨-, -, -, q2⟩
                                          · omega
                                          · omega
                                        have hP : va_P G gcl (wD ad ty hv σ (up (up (up ς 0 gg) 1 gh) 2 (sc (nd))) (setk κc 4 (s1) (r1) (y57_0) (t1)) ++ cs) H := hP
                                        have hD : va_D A (wD ad ty hv σ (up (up (up ς 0 gg) 1 gh) 2 (sc (nd))) (setk κc 4 (s1) (r1) (y57_0) (t1)) ++ cs) := hD
                                        refine li_iinc (a := t1) (lv' := [(7, .int (ii (t1 + 1))), (6, .int (ii y57_0)), (5, .int (ii r1)), (4, .int (ii zl)), (3, .int (ii s1)), (2, .int (ii 4)), (0, .ref (ad 0)), (1, .ref (ad 8))]) hx hb dX1_lists_137 hl (k := 0) rfl (by decide) rfl (fun ls hl => ?_)
                                        refine lv_goto (tgt := 94) hx hb dX1_lists_140 (by decide) ?_
                                        exact ih (t1 + 1) (setk κc 4 (s1) (r1) (y57_0) (t1)) gg gh nd (by omega) (by omega) (by omega) (by omega) (.inl ⟨hb0, hb4, hLd⟩) (by omega) H locs hP hD hS ls (lv_sub hl [0, 1, 2, 3, 4, 5, 6, 7] rfl)
                                  · refine li_if_eq (tgt := 143) hx hb ⟨by decide, by decide⟩ dX1_lists_101 (by decide) (fun c101 => ?_) (fun c101 => ?_)
                                    · exact X94 t1 κc ge gf nc (by omega) (by omega) (by rcases hLc with ⟨q1, q2, q3⟩ | ⟨q1, q2, q3⟩; exact LI_skip q3 (by omega) (by omega) (fun x a c h => by have h1 := hfrom x h (by omega) (by omega); have h2 := lgl_to h; omega); exact LI_skip q3 (by omega) (by omega) (fun x a c h => by have h1 := hfrom x h (by omega) (by omega); have := lgl_fr h; omega)) H locs hP hD hS ls (lv_sub hl [2, 3, 4, 5, 6, 7] rfl)
                                    · exact absurd c101 (by decide)
                              exact L94 _ 0 κb gc gd nb (by omega) (by omega) (by omega) (by omega) (by rcases Classical.em (0 ≤ y57_0 ∧ y57_0 ≤ 4) with e | e; exact .inl ⟨e.1, e.2, LI_skip hLb (by omega) (by omega) (fun x a c h => by have := hfrom x h (by omega) (by omega); omega)⟩; exact .inr ⟨e, rfl, hLb⟩) (Nat.lt_succ_self _) H locs hP hD hS ls (lv_sub hl [0, 1, 2, 3, 4, 5, 6, 7] rfl)
                            refine li_if_ne (tgt := 87) hx hb ⟨by omega, by omega⟩ dX1_lists_57 (by decide) (fun c57 => ?_) (fun c57 => ?_)
                            · refine lv_iload hx hb dX1_lists_87 (lv_at hl 1 rfl) ?_
                              exact J57 _ (⟨by unfold beg; omega, by omega, by omega⟩) H locs hP hD hS ls (lv_sub hl [0, 1, 2, 3, 4, 5] rfl)
                            · refine lv_iload hx hb dX1_lists_60 (lv_at hl 0 rfl) ?_
                              refine lv_aload_n hx hb dX1_lists_62 rfl (lv_at hl 4 rfl) ?_
                              refine va_get (D := G) (ci := 0) (v := .ref (ad 1)) (C := RX1) (T := TX1) (N := 21) hx hb hts in_X1 hown hK hP 0 (aD_0 _ _ _ _ _ _ _) rfl 0 (by decide) (hts _ q977) (fun _ h9 => h9) rfl dX1_lists_63 ?_
                              refine va_get (D := G) (ci := 1) (v := .int (ii (σ 10 0))) (C := RX2) (T := TX2) (N := 13) hx hb hts in_X2 hown hK hP 1 (aD_1 _ _ _ _ _ _ _) rfl 8 (by decide) (hts _ q801) (fun _ h9 => h9) rfl dX1_lists_66 ?_
                              refine li_icmp_ge (tgt := 82) hx hb ⟨by omega, by omega⟩ (rgi h10a h10b) dX1_lists_69 (by decide) (fun c69 => ?_) (fun c69 => ?_)
                              · refine li_bipush hx hb dX1_lists_82 (by decide) ?_
                                refine lv_goto (tgt := 89) hx hb dX1_lists_84 (by decide) ?_
                                exact J57 _ (⟨by unfold beg; omega, by omega, by omega⟩) H locs hP hD hS ls (lv_sub hl [0, 1, 2, 3, 4, 5] rfl)
                              · refine lv_aload_n hx hb dX1_lists_72 rfl (lv_at hl 5 rfl) ?_
                                refine va_get (D := G) (ci := 2) (v := .ref (ad 10)) (C := RX3) (T := TX3) (N := 2) hx hb hts in_X3 hown hK hP 8 (aD_8 _ _ _ _ _ _ _) rfl 1 (by decide) (hts _ q664) (fun _ h9 => h9) rfl dX1_lists_73 ?_
                                refine lv_iload hx hb dX1_lists_76 (lv_at hl 0 rfl) ?_
                                refine li_iald (g := (σ 7)) hx hb hK hP 10 0 (aD_10 _ _ _ _ _ _ _) rfl (by omega) (by omega) (by decide) dX1_lists_78 ?_
                                have r79 := hs1 r1
                                refine lv_goto (tgt := 89) hx hb dX1_lists_79 (by decide) ?_
                                exact J57 _ (⟨by unfold beg; omega, by omega, by omega⟩) H locs hP hD hS ls (lv_sub hl [0, 1, 2, 3, 4, 5] rfl)
                          · refine lv_iload hx hb dX1_lists_51 (lv_at hl 0 rfl) ?_
                            refine li_if_ne (tgt := 149) hx hb ⟨by omega, by omega⟩ dX1_lists_53 (by decide) (fun c53 => ?_) (fun c53 => ?_)
                            · exact X39 r1 κb gc gd nb (by omega) (by omega) (LI_skip hLb (by omega) (by omega) (fun x a c => lgl_rope_a h10a h10b (by omega) (by omega) (by omega) (by omega) (by omega))) H locs hP hD hS ls (lv_sub hl [2, 3, 4, 5] rfl)
                            · refine lv_iload_n hx hb dX1_lists_56 rfl (lv_at hl 2 rfl) ?_
                              have J57 : ∀ (y57_0 : Int) (_ : beg σ (σ 7) zl s1 r1 y57_0 ∧ -4 ≤ y57_0 ∧ y57_0 ≤ 5) (H : Heap) (locs : List Loc) (_ : va_P G gcl (wD ad ty hv σ (up (up (up ς 0 gc) 1 gd) 2 (sc (nb))) κb ++ cs) H) (_ : va_D A (wD ad ty hv σ (up (up (up ς 0 gc) 1 gd) 2 (sc (nb))) κb ++ cs)) (_ : va_S A s.heap H locs) (ls : Array Slot), lv_has ls 8 [(5, .int (ii r1)), (4, .int (ii zl)), (3, .int (ii s1)), (2, .int (ii 4)), (0, .ref (ad 0)), (1, .ref (ad 8))] → W p l e (rm4 4 0 0 93) s m args below meth c H locs 0 0 Q (F0 m 89 ls [.int (ii y57_0)]) := by
                                intro y57_0 hj57 H locs hP hD hS ls hl
                                refine lv_istore (lv' := [(6, .int (ii y57_0)), (5, .int (ii r1)), (4, .int (ii zl)), (3, .int (ii s1)), (2, .int (ii 4)), (0, .ref (ad 0)), (1, .ref (ad 8))]) hx hb dX1_lists_89 hl (by decide) rfl (fun ls hl => ?_)
                                have hfrom : ∀ x, lgl σ (σ 6) (σ 7) x → (40000 + 1000 * s1 + 100 * r1) ≤ x → x < (40000 + 1000 * s1 + 100 * r1) + 100 → x / 10 % 10 = y57_0 := fun x h a c => lgl_from h (k := 4) (s := s1) (r := r1) (by omega) (by omega) (by omega) hzl2 hj57.1
                                refine li_iconst hx hb dX1_lists_91 ?_
                                refine lv_istore (lv' := [(7, .int (ii 0)), (6, .int (ii y57_0)), (5, .int (ii r1)), (4, .int (ii zl)), (3, .int (ii s1)), (2, .int (ii 4)), (0, .ref (ad 0)), (1, .ref (ad 8))]) hx hb dX1_lists_92 hl (by decide) rfl (fun ls hl => ?_)
                                have X94 : ∀ (t1 : Int) (κc : mem) (ge : Int → Int) (gf : Int → Int) (nc : Int) (_ : 0 ≤ nc) (_ : nc ≤ 200 + 10 * s1 + 5 * (r1 + 1)) (_ : LI (lgl σ (σ 6) (σ 7)) (mvV σ) ge gf nc ((40000 + 1000 * s1 + 100 * r1) + 100)) (H : Heap) (locs : List Loc) (_ : va_P G gcl (wD ad ty hv σ (up (up (up ς 0 ge) 1 gf) 2 (sc (nc))) κc ++ cs) H) (_ : va_D A (wD ad ty hv σ (up (up (up ς 0 ge) 1 gf) 2 (sc (nc))) κc ++ cs)) (_ : va_S A s.heap H locs) (ls : Array Slot), lv_has ls 8 [(5, .int (ii r1)), (4, .int (ii zl)), (3, .int (ii s1)), (2, .int (ii 4)), (0, .ref (ad 0)), (1, .ref (ad 8))] → W p l e (rm4 4 0 0 93) s m args below meth c H locs 0 0 Q (F0 m 143 ls []) := by
                                  intro t1 κc ge gf nc hnc hBc hLz H locs hP hD hS ls hl
                                  refine li_iinc (a := r1) (lv' := [(5, .int (ii (r1 + 1))), (4, .int (ii zl)), (3, .int (ii s1)), (2, .int (ii 4)), (0, .ref (ad 0)), (1, .ref (ad 8))]) hx hb dX1_lists_143 hl (k := 0) rfl (by decide) rfl (fun ls hl => ?_)
                                  refine lv_goto (tgt := 39) hx hb dX1_lists_146 (by decide) ?_
                                  exact ih (r1 + 1) κc ge gf nc (by omega) (by omega) (by omega) (hBc) (by rw [show (40000 + 1000 * s1 + 100 * (r1 + 1)) = 40000 + 1000 * s1 + 100 * r1 + 100 by omega]; exact hLz) (by omega) H locs hP hD hS ls (lv_sub hl [0, 1, 2, 3, 4, 5] rfl)
                                have L94 : ∀ (n : Nat) (t1 : Int) (κc : mem) (ge : Int → Int) (gf : Int → Int) (nc : Int) (_ : 0 ≤ t1) (_ : t1 ≤ σ 8 0) (_ : 0 ≤ nc) (_ : nc ≤ 200 + 10 * s1 + 5 * r1 + t1) (_ : LQ (lgl σ (σ 6) (σ 7)) (mvV σ) ge gf nc ((40000 + 1000 * s1 + 100 * r1) + 10 * y57_0 + t1) (40000 + 1000 * s1 + 100 * r1) t1 y57_0) (_ : (5 - t1).toNat < n) (H : Heap) (locs : List Loc) (_ : va_P G gcl (wD ad ty hv σ (up (up (up ς 0 ge) 1 gf) 2 (sc (nc))) κc ++ cs) H) (_ : va_D A (wD ad ty hv σ (up (up (up ς 0 ge) 1 gf) 2 (sc (nc))) κc ++ cs)) (_ : va_S A s.heap H locs) (ls : Array Slot), lv_has ls 8 [(7, .int (ii t1)), (6, .int (ii y57_0)), (5, .int (ii r1)), (4, .int (ii zl)), (3, .int (ii s1)), (2, .int (ii 4)), (0, .ref (ad 0)), (1, .ref (ad 8))] → W p l e (rm4 4 0 0 93) s m args below meth c H locs 0 0 Q (F0 m 94 ls []) := by
                                  intro n
                                  induction n with
                                  | zero =>
                                    intro t1 κc ge gf nc ht1a ht1b hnc hBc hLc hm
                                    exact absurd hm (Nat.not_lt_zero _)
                                  | succ n ih =>
                                    intro t1 κc ge gf nc ht1a ht1b hnc hBc hLc hm H locs hP hD hS ls hl
                                    refine lv_iload hx hb dX1_lists_94 (lv_at hl 1 rfl) ?_
                                    refine li_iconst hx hb dX1_lists_96 ?_
                                    refine li_iconst hx hb dX1_lists_97 ?_
                                    refine kR (va_runS (As := [.int (ii y57_0), .int (ii 0), .int (ii 4)]) (rest := []) ⟨hx, hb, hml, hown, hts⟩ (m_isIn l G ty (wD ad ty hv σ (up (up (up ς 0 ge) 1 gf) 2 (sc (nc))) κc ++ cs) y57_0 0 4 ⟨by omega, by omega⟩ ⟨by decide, by decide⟩ ⟨by decide, by decide⟩) (va_cwS 3 hts (lw_S q117 q118 q76 q119) rfl rfl rfl (by decide +kernel) ⟨Nat.le_of_ble_eq_true rfl, Nat.le_of_ble_eq_true rfl⟩) (psR hK hP hD hX) rfl rfl hl.1 rfl (lv_room (Nat.le_of_ble_eq_true rfl)) dX1_lists_98 ⟨Nat.le_of_ble_eq_true rfl, Nat.le_of_ble_eq_true rfl⟩) (fun v hv => ?_)
                                    obtain ⟨z98, rfl, ⟨rfl, h98⟩ | ⟨rfl, h98⟩⟩ := hv
                                    · refine li_if_eq (tgt := 143) hx hb ⟨by decide, by decide⟩ dX1_lists_101 (by decide) (fun c101 => ?_) (fun c101 => ?_)
                                      · exact absurd c101 (by decide)
                                      · refine lv_iload hx hb dX1_lists_104 (lv_at hl 0 rfl) ?_
                                        refine lv_aload_n hx hb dX1_lists_106 rfl (lv_at hl 6 rfl) ?_
                                        refine va_get (D := G) (ci := 0) (v := .ref (ad 1)) (C := RX1) (T := TX1) (N := 21) hx hb hts in_X1 hown hK hP 0 (aD_0 _ _ _ _ _ _ _) rfl 0 (by decide) (hts _ q977) (fun _ h9 => h9) rfl dX1_lists_107 ?_
                                        refine va_get (D := G) (ci := 1) (v := .int (ii (σ 8 0))) (C := RX2) (T := TX2) (N := 13) hx hb hts in_X2 hown hK hP 1 (aD_1 _ _ _ _ _ _ _) rfl 4 (by decide) (hts _ q785) (fun _ h9 => h9) rfl dX1_lists_110 ?_
                                        refine li_icmp_ge (tgt := 143) hx hb ⟨by omega, by omega⟩ (rgi h8a h8b) dX1_lists_113 (by decide) (fun c113 => ?_) (fun c113 => ?_)
                                        · exact X94 t1 κc ge gf nc (by omega) (by omega) (by rcases hLc with ⟨q1, q2, q3⟩ | ⟨q1, q2, q3⟩; exact LI_skip q3 (by omega) (by omega) (fun x a c h => by have h1 := hfrom x h (by omega) (by omega); have h2 := lgl_to h; omega); exact LI_skip q3 (by omega) (by omega) (fun x a c h => by have h1 := hfrom x h (by omega) (by omega); have := lgl_fr h; omega)) H locs hP hD hS ls (lv_sub hl [2, 3, 4, 5, 6, 7] rfl)
                                        · have hb0 : 0 ≤ y57_0 := h98.1
                                          have hb4 : y57_0 ≤ 4 := h98.2
                                          have hLe := LI_in hLc ⟨hb0, hb4⟩
                                          refine lv_aload_n hx hb dX1_lists_116 rfl (lv_at hl 6 rfl) ?_
                                          refine lv_aload_n hx hb dX1_lists_117 rfl (lv_at hl 6 rfl) ?_
                                          refine va_get (D := G) (ci := 0) (v := .ref (ad 31)) (C := RX1) (T := TX1) (N := 21) hx hb hts in_X1 hown hK hP 0 (aD_0 _ _ _ _ _ _ _) rfl 4 (by decide) (hts _ q981) (fun _ h9 => h9) rfl dX1_lists_118 ?_
                                          refine lv_iload_n hx hb dX1_lists_121 rfl (lv_at hl 5 rfl) ?_
                                          refine li_aald (q := ad 36) hx hb hK hP 31 5 (aD_31 _ _ _ _ _ _ _) rfl (by decide) (by decide) (by decide) (rfl) dX1_lists_122 ?_
                                          refine lv_iload_n hx hb dX1_lists_123 rfl (lv_at hl 4 rfl) ?_
                                          refine lv_iload hx hb dX1_lists_124 (lv_at hl 2 rfl) ?_
                                          refine lv_iload hx hb dX1_lists_126 (lv_at hl 1 rfl) ?_
                                          refine lv_iload hx hb dX1_lists_128 (lv_at hl 0 rfl) ?_
                                          refine v_tells (mi := 36) (md := ad 36) (a1 := s1) (a2 := r1) (a3 := y57_0) (a4 := t1) hx hb hml hown hts hK hP hD hX 4 (by decide) hS hA (aDk ad ty hv σ _ κc cs (by decide)) (Nat.le_of_ble_eq_true rfl) (Nat.le_of_ble_eq_true rfl) hl.1 (Nat.le_of_ble_eq_true rfl) ⟨Nat.le_of_ble_eq_true rfl, Nat.le_of_ble_eq_true rfl⟩ dX1_lists_130 (fun H locs hP hD hS => ?_)
                                          rw [aDk_set ad ty hv σ _ κc cs (show 4 < 7 by decide)] at hP hD
                                          refine lv_aload_n hx hb dX1_lists_133 rfl (lv_at hl 7 rfl) ?_
                                          refine kM (va_runV (As := [.ref (ad 36), .ref (ad 8)]) (rest := []) ⟨hx, hb, hml, hown, hts⟩ (m_tries_4N l G ad ty hv σ (up (up (up ς 0 ge) 1 gf) 2 (sc (nc))) (setk κc 4 (s1) (r1) (y57_0) (t1)) cs hW hWT hlgT ⟨hs1a, by show s1 ≤ 7; omega, hr1a, by show r1 ≤ 1; omega, hb0, hb4, ht1a, by show t1 ≤ 4; omega⟩ ⟨hnc, by show nc < 400; omega⟩ H.size) (cwV 2 hts (lw_V q553 q555 qs21 q76 q556) rfl rfl rfl (by decide +kernel) ⟨Nat.le_of_ble_eq_true rfl, Nat.le_of_ble_eq_true rfl⟩) (pvM (r := (RX1, TX1, 21)) hK hP hD hX 0 (aD_0 _ _ _ _ _ _ _) rfl) rfl rfl hl.1 rfl (lv_room (Nat.le_of_ble_eq_true rfl)) dX1_lists_134 ⟨Nat.le_of_ble_eq_true rfl, Nat.le_of_ble_eq_true rfl⟩) hD hS hA (fun v ws1 H locs hv hP hD hS => ?_)
                                          obtain ⟨gg, gh, nd, rfl, rfl, hadd⟩ := hv
                                          change (mnOk σ (σ 6) (σ 7) 4 s1 r1 y57_0 t1 ∧ gg = ug ge nc (40000 + 1000 * s1 + 100 * r1 + 10 * y57_0 + t1) ∧ gh = ug gf nc (mnV σ 4 s1 y57_0 t1) ∧ nd = nc + 1) ∨ (¬ mnOk σ (σ 6) (σ 7) 4 s1 r1 y57_0 t1 ∧ gg = ge ∧ gh = gf ∧ nd = nc) at hadd
                                          have hLd : LI (lgl σ (σ 6) (σ 7)) (mvV σ) gg gh nd ((40000 + 1000 * s1 + 100 * r1) + 10 * y57_0 + (t1 + 1)) := LI_mv hadd hLe (by omega) (by omega) (by omega) (by omega) (by omega) (by omega) (by omega) (by omega) (by omega) (by omega)
                                          have hnd : nc ≤ nd ∧ nd ≤ nc + 1 := by
                                            rcases hadd with ⟨q1, -, -, q2⟩ | ⟨-, -, -, q2⟩
                                            · omega
                                            · omega
                                          have hP : va_P G gcl (wD ad ty hv σ (up (up (up ς 0 gg) 1 gh) 2 (sc (nd))) (setk κc 4 (s1) (r1) (y57_0) (t1)) ++ cs) H := hP
                                          have hD : va_D A (wD ad ty hv σ (up (up (up ς 0 gg) 1 gh) 2 (sc (nd))) (setk κc 4 (s1) (r1) (y57_0) (t1)) ++ cs) := hD
                                          refine li_iinc (a := t1) (lv' := [(7, .int (ii (t1 + 1))), (6, .int (ii y57_0)), (5, .int (ii r1)), (4, .int (ii zl)), (3, .int (ii s1)), (2, .int (ii 4)), (0, .ref (ad 0)), (1, .ref (ad 8))]) hx hb dX1_lists_137 hl (k := 0) rfl (by decide) rfl (fun ls hl => ?_)
                                          refine lv_goto (tgt := 94) hx hb dX1_lists_140 (by decide) ?_
                                          exact ih (t1 + 1) (setk κc 4 (s1) (r1) (y57_0) (t1)) gg gh nd (by omega) (by omega) (by omega) (by omega) (.inl ⟨hb0, hb4, hLd⟩) (by omega) H locs hP hD hS ls (lv_sub hl [0, 1, 2, 3, 4, 5, 6, 7] rfl)
                                    · refine li_if_eq (tgt := 143) hx hb ⟨by decide, by decide⟩ dX1_lists_101 (by decide) (fun c101 => ?_) (fun c101 => ?_)
                                      · exact X94 t1 κc ge gf nc (by omega) (by omega) (by rcases hLc with ⟨q1, q2, q3⟩ | ⟨q1, q2, q3⟩; exact LI_skip q3 (by omega) (by omega) (fun x a c h => by have h1 := hfrom x h (by omega) (by omega); have h2 := lgl_to h; omega); exact LI_skip q3 (by omega) (by omega) (fun x a c h => by have h1 := hfrom x h (by omega) (by omega); have := lgl_fr h; omega)) H locs hP hD hS ls (lv_sub hl [2, 3, 4, 5, 6, 7] rfl)
                                      · exact absurd c101 (by decide)
                                exact L94 _ 0 κb gc gd nb (by omega) (by omega) (by omega) (by omega) (by rcases Classical.em (0 ≤ y57_0 ∧ y57_0 ≤ 4) with e | e; exact .inl ⟨e.1, e.2, LI_skip hLb (by omega) (by omega) (fun x a c h => by have := hfrom x h (by omega) (by omega); omega)⟩; exact .inr ⟨e, rfl, hLb⟩) (Nat.lt_succ_self _) H locs hP hD hS ls (lv_sub hl [0, 1, 2, 3, 4, 5, 6, 7] rfl)
                              refine li_if_ne (tgt := 87) hx hb ⟨by omega, by omega⟩ dX1_lists_57 (by decide) (fun c57 => ?_) (fun c57 => ?_)
                              · refine lv_iload hx hb dX1_lists_87 (lv_at hl 1 rfl) ?_
                                exact J57 _ (⟨by unfold beg; omega, by omega, by omega⟩) H locs hP hD hS ls (lv_sub hl [0, 1, 2, 3, 4, 5] rfl)
                              · refine lv_iload hx hb dX1_lists_60 (lv_at hl 0 rfl) ?_
                                refine lv_aload_n hx hb dX1_lists_62 rfl (lv_at hl 4 rfl) ?_
                                refine va_get (D := G) (ci := 0) (v := .ref (ad 1)) (C := RX1) (T := TX1) (N := 21) hx hb hts in_X1 hown hK hP 0 (aD_0 _ _ _ _ _ _ _) rfl 0 (by decide) (hts _ q977) (fun _ h9 => h9) rfl dX1_lists_63 ?_
                                refine va_get (D := G) (ci := 1) (v := .int (ii (σ 10 0))) (C := RX2) (T := TX2) (N := 13) hx hb hts in_X2 hown hK hP 1 (aD_1 _ _ _ _ _ _ _) rfl 8 (by decide) (hts _ q801) (fun _ h9 => h9) rfl dX1_lists_66 ?_
                                refine li_icmp_ge (tgt := 82) hx hb ⟨by omega, by omega⟩ (rgi h10a h10b) dX1_lists_69 (by decide) (fun c69 => ?_) (fun c69 => ?_)
                                · refine li_bipush hx hb dX1_lists_82 (by decide) ?_
                                  refine lv_goto (tgt := 89) hx hb dX1_lists_84 (by decide) ?_
                                  exact J57 _ (⟨by unfold beg; omega, by omega, by omega⟩) H locs hP hD hS ls (lv_sub hl [0, 1, 2, 3, 4, 5] rfl)
                                · refine lv_aload_n hx hb dX1_lists_72 rfl (lv_at hl 5 rfl) ?_
                                  refine va_get (D := G) (ci := 2) (v := .ref (ad 10)) (C := RX3) (T := TX3) (N := 2) hx hb hts in_X3 hown hK hP 8 (aD_8 _ _ _ _ _ _ _) rfl 1 (by decide) (hts _ q664) (fun _ h9 => h9) rfl dX1_lists_73 ?_
                                  refine lv_iload hx hb dX1_lists_76 (lv_at hl 0 rfl) ?_
                                  refine li_iald (g := (σ 7)) hx hb hK hP 10 0 (aD_10 _ _ _ _ _ _ _) rfl (by omega) (by omega) (by decide) dX1_lists_78 ?_
                                  have r79 := hs1 r1
                                  refine lv_goto (tgt := 89) hx hb dX1_lists_79 (by decide) ?_
                                  exact J57 _ (⟨by unfold beg; omega, by omega, by omega⟩) H locs hP hD hS ls (lv_sub hl [0, 1, 2, 3, 4, 5] rfl)
                      exact L39 _ 0 κa ga gb na (by omega) (by omega) (by omega) (by omega) (by rw [show (40000 + 1000 * s1 + 100 * (0 : Int)) = 40000 + 1000 * s1 by omega]; exact hLa) (Nat.lt_succ_self _) H locs hP hD hS ls (lv_sub hl [0, 1, 2, 3, 4, 5] rfl)
                exact L15 _ 0 κa ga gb na (by omega) (by omega) (by omega) (by omega) (by omega) (by first | exact LI_skip (LI_0 _ _ _ _) (by decide) (by decide) (fun x a c => lgl_0 (by omega)) | (rw [show (40000 + 1000 * (0 : Int)) = 40000 by rfl]; exact hLx)) (Nat.lt_succ_self _) H locs hP hD hS ls (lv_sub hl [0, 1, 2, 3] rfl)
            have L15 : ∀ (n : Nat) (s1 : Int) (κa : mem) (ga : Int → Int) (gb : Int → Int) (na : Int) (_ : 0 ≤ s1) (_ : s1 ≤ p2 (σ 9 0)) (_ : s1 ≤ 8) (_ : 0 ≤ na) (_ : na ≤ 160 + 5 * s1) (_ : LI (lgl σ (σ 6) (σ 7)) (mvV σ) ga gb na (30000 + 1000 * s1)) (_ : (8 - s1).toNat < n) (H : Heap) (locs : List Loc) (_ : va_P G gcl (wD ad ty hv σ (up (up (up ς 0 ga) 1 gb) 2 (sc (na))) κa ++ cs) H) (_ : va_D A (wD ad ty hv σ (up (up (up ς 0 ga) 1 gb) 2 (sc (na))) κa ++ cs)) (_ : va_S A s.heap H locs) (ls : Array Slot), lv_has ls 8 [(3, .int (ii s1)), (2, .int (ii 3)), (0, .ref (ad 0)), (1, .ref (ad 8))] → W p l e (rm4 4 0 0 93) s m args below meth c H locs 0 0 Q (F0 m 15 ls []) := by
              intro n
              induction n with
              | zero =>
                intro s1 κa ga gb na hs1a hs1b hs7 hna hBa hLa hm
                exact absurd hm (Nat.not_lt_zero _)
              | succ n ih =>
                intro s1 κa ga gb na hs1a hs1b hs7 hna hBa hLa hm H locs hP hD hS ls hl
                refine lv_iload_n hx hb dX1_lists_15 rfl (lv_at hl 0 rfl) ?_
                refine li_iconst hx hb dX1_lists_16 ?_
                refine lv_aload_n hx hb dX1_lists_17 rfl (lv_at hl 2 rfl) ?_
                refine va_get (D := G) (ci := 0) (v := .ref (ad 1)) (C := RX1) (T := TX1) (N := 21) hx hb hts in_X1 hown hK hP 0 (aD_0 _ _ _ _ _ _ _) rfl 0 (by decide) (hts _ q977) (fun _ h9 => h9) rfl dX1_lists_18 ?_
                refine va_get (D := G) (ci := 1) (v := .int (ii (σ 9 0))) (C := RX2) (T := TX2) (N := 13) hx hb hts in_X2 hown hK hP 1 (aD_1 _ _ _ _ _ _ _) rfl 6 (by decide) (hts _ q790) (fun _ h9 => h9) rfl dX1_lists_21 ?_
                refine lv_ishl hx hb dX1_lists_24 ?_
                refine li_topx (z := p2 (σ 9 0)) (ii_shl1 h9a h9b) ?_
                refine li_icmp_ge (tgt := 155) hx hb ⟨by omega, by omega⟩ ⟨by omega, by omega⟩ dX1_lists_25 (by decide) (fun c25 => ?_) (fun c25 => ?_)
                · exact X15 s1 κa ga gb na (by omega) (by omega) (LI_skip hLa (by omega) (by omega) (fun x a c => lgl_set h9a h9b (by omega) (by omega))) H locs hP hD hS ls (lv_sub hl [1, 2, 3] rfl)
                · refine lv_aload_n hx hb dX1_lists_28 rfl (lv_at hl 2 rfl) ?_
                  refine lv_iload_n hx hb dX1_lists_29 rfl (lv_at hl 0 rfl) ?_
                  refine lv_aload_n hx hb dX1_lists_30 rfl (lv_at hl 3 rfl) ?_
                  refine kR (va_runV (As := [.int (ii s1), .ref (ad 8)]) (rest := []) ⟨hx, hb, hml, hown, hts⟩ (m_ledgeOfN l G ad ty hv σ (up (up (up ς 0 ga) 1 gb) 2 (sc (na))) κa cs s1 hW hWT ⟨by omega, by omega⟩) (cwV 2 hts (lw_V q549 q551 qs20 q76 q552) rfl rfl rfl (by decide +kernel) ⟨Nat.le_of_ble_eq_true rfl, Nat.le_of_ble_eq_true rfl⟩) (pvR (r := (RX1, TX1, 21)) hK hP hD hX 0 (aD_0 _ _ _ _ _ _ _) rfl) rfl rfl hl.1 rfl (lv_room (Nat.le_of_ble_eq_true rfl)) dX1_lists_31 ⟨Nat.le_of_ble_eq_true rfl, Nat.le_of_ble_eq_true rfl⟩) (fun v hv => ?_)
                  obtain ⟨zl, rfl, hzl, hzl2⟩ := hv
                  replace hzl : -4 ≤ zl ∧ zl ≤ 4 := by omega
                  refine lv_istore (lv' := [(4, .int (ii zl)), (3, .int (ii s1)), (2, .int (ii 3)), (0, .ref (ad 0)), (1, .ref (ad 8))]) hx hb dX1_lists_34 hl (by decide) rfl (fun ls hl => ?_)
                  refine li_iconst hx hb dX1_lists_36 ?_
                  refine lv_istore (lv' := [(5, .int (ii 0)), (4, .int (ii zl)), (3, .int (ii s1)), (2, .int (ii 3)), (0, .ref (ad 0)), (1, .ref (ad 8))]) hx hb dX1_lists_37 hl (by decide) rfl (fun ls hl => ?_)
                  have X39 : ∀ (r1 : Int) (κb : mem) (gc : Int → Int) (gd : Int → Int) (nb : Int) (_ : 0 ≤ nb) (_ : nb ≤ 160 + 5 * (s1 + 1)) (_ : LI (lgl σ (σ 6) (σ 7)) (mvV σ) gc gd nb (30000 + 1000 * s1 + 1000)) (H : Heap) (locs : List Loc) (_ : va_P G gcl (wD ad ty hv σ (up (up (up ς 0 gc) 1 gd) 2 (sc (nb))) κb ++ cs) H) (_ : va_D A (wD ad ty hv σ (up (up (up ς 0 gc) 1 gd) 2 (sc (nb))) κb ++ cs)) (_ : va_S A s.heap H locs) (ls : Array Slot), lv_has ls 8 [(3, .int (ii s1)), (2, .int (ii 3)), (0, .ref (ad 0)), (1, .ref (ad 8))] → W p l e (rm4 4 0 0 93) s m args below meth c H locs 0 0 Q (F0 m 149 ls []) := by
                    intro r1 κb gc gd nb hnb hBb hLy H locs hP hD hS ls hl
                    refine li_iinc (a := s1) (lv' := [(3, .int (ii (s1 + 1))), (2, .int (ii 3)), (0, .ref (ad 0)), (1, .ref (ad 8))]) hx hb dX1_lists_149 hl (k := 0) rfl (by decide) rfl (fun ls hl => ?_)
                    refine lv_goto (tgt := 15) hx hb dX1_lists_152 (by decide) ?_
                    exact ih (s1 + 1) κb gc gd nb (by omega) (by omega) (by omega) (by omega) (hBb) (by rw [show (30000 + 1000 * (s1 + 1)) = 30000 + 1000 * s1 + 1000 by omega]; exact hLy) (by omega) H locs hP hD hS ls (lv_sub hl [0, 1, 2, 3] rfl)
                  have L39 : ∀ (n : Nat) (r1 : Int) (κb : mem) (gc : Int → Int) (gd : Int → Int) (nb : Int) (_ : 0 ≤ r1) (_ : r1 ≤ 2) (_ : 0 ≤ nb) (_ : nb ≤ 160 + 5 * s1 + ib r1 0 5) (_ : LI (lgl σ (σ 6) (σ 7)) (mvV σ) gc gd nb (30000 + 1000 * s1 + 100 * r1)) (_ : (2 - r1).toNat < n) (H : Heap) (locs : List Loc) (_ : va_P G gcl (wD ad ty hv σ (up (up (up ς 0 gc) 1 gd) 2 (sc (nb))) κb ++ cs) H) (_ : va_D A (wD ad ty hv σ (up (up (up ς 0 gc) 1 gd) 2 (sc (nb))) κb ++ cs)) (_ : va_S A s.heap H locs) (ls : Array Slot), lv_has ls 8 [(5, .int (ii r1)), (4, .int (ii zl)), (3, .int (ii s1)), (2, .int (ii 3)), (0, .ref (ad 0)), (1, .ref (ad 8))] → W p l e (rm4 4 0 0 93) s m args below meth c H locs 0 0 Q (F0 m 39 ls []) := by
                    intro n
                    induction n with
                    | zero =>
                      intro r1 κb gc gd nb hr1a hr1b hnb hBb hLb hm
                      exact absurd hm (Nat.not_lt_zero _)
                    | succ n ih =>
                      intro r1 κb gc gd nb hr1a hr1b hnb hBb hLb hm H locs hP hD hS ls hl
                      refine lv_iload hx hb dX1_lists_39 (lv_at hl 0 rfl) ?_
                      refine lv_aload_n hx hb dX1_lists_41 rfl (lv_at hl 4 rfl) ?_
                      refine va_get (D := G) (ci := 0) (v := .ref (ad 1)) (C := RX1) (T := TX1) (N := 21) hx hb hts in_X1 hown hK hP 0 (aD_0 _ _ _ _ _ _ _) rfl 0 (by decide) (hts _ q977) (fun _ h9 => h9) rfl dX1_lists_42 ?_
                      refine va_get (D := G) (ci := 1) (v := .int (ii (σ 10 0))) (C := RX2) (T := TX2) (N := 13) hx hb hts in_X2 hown hK hP 1 (aD_1 _ _ _ _ _ _ _) rfl 8 (by decide) (hts _ q801) (fun _ h9 => h9) rfl dX1_lists_45 ?_
                      refine li_icmp_lt (tgt := 56) hx hb ⟨by omega, by omega⟩ (rgi h10a h10b) dX1_lists_48 (by decide) (fun c48 => ?_) (fun c48 => ?_)
                      · refine lv_iload_n hx hb dX1_lists_56 rfl (lv_at hl 2 rfl) ?_
                        have J57 : ∀ (y57_0 : Int) (_ : beg σ (σ 7) zl s1 r1 y57_0 ∧ -4 ≤ y57_0 ∧ y57_0 ≤ 5) (H : Heap) (locs : List Loc) (_ : va_P G gcl (wD ad ty hv σ (up (up (up ς 0 gc) 1 gd) 2 (sc (nb))) κb ++ cs) H) (_ : va_D A (wD ad ty hv σ (up (up (up ς 0 gc) 1 gd) 2 (sc (nb))) κb ++ cs)) (_ : va_S A s.heap H locs) (ls : Array Slot), lv_has ls 8 [(5, .int (ii r1)), (4, .int (ii zl)), (3, .int (ii s1)), (2, .int (ii 3)), (0, .ref (ad 0)), (1, .ref (ad 8))] → W p l e (rm4 4 0 0 93) s m args below meth c H locs 0 0 Q (F0 m 89 ls [.int (ii y57_0)]) := by
                          intro y57_0 hj57 H locs hP hD hS ls hl
                          refine lv_istore (lv' := [(6, .int (ii y57_0)), (5, .int (ii r1)), (4, .int (ii zl)), (3, .int (ii s1)), (2, .int (ii 3)), (0, .ref (ad 0)), (1, .ref (ad 8))]) hx hb dX1_lists_89 hl (by decide) rfl (fun ls hl => ?_)
                          have hfrom : ∀ x, lgl σ (σ 6) (σ 7) x → (30000 + 1000 * s1 + 100 * r1) ≤ x → x < (30000 + 1000 * s1 + 100 * r1) + 100 → x / 10 % 10 = y57_0 := fun x h a c => lgl_from h (k := 3) (s := s1) (r := r1) (by omega) (by omega) (by omega) hzl2 hj57.1
                          refine li_iconst hx hb dX1_lists_91 ?_
                          refine lv_istore (lv' := [(7, .int (ii 0)), (6, .int (ii y57_0)), (5, .int (ii r1)), (4, .int (ii zl)), (3, .int (ii s1)), (2, .int (ii 3)), (0, .ref (ad 0)), (1, .ref (ad 8))]) hx hb dX1_lists_92 hl (by decide) rfl (fun ls hl => ?_)
                          have X94 : ∀ (t1 : Int) (κc : mem) (ge : Int → Int) (gf : Int → Int) (nc : Int) (_ : 0 ≤ nc) (_ : nc ≤ 160 + 5 * s1 + ib (r1 + 1) 0 5) (_ : LI (lgl σ (σ 6) (σ 7)) (mvV σ) ge gf nc ((30000 + 1000 * s1 + 100 * r1) + 100)) (H : Heap) (locs : List Loc) (_ : va_P G gcl (wD ad ty hv σ (up (up (up ς 0 ge) 1 gf) 2 (sc (nc))) κc ++ cs) H) (_ : va_D A (wD ad ty hv σ (up (up (up ς 0 ge) 1 gf) 2 (sc (nc))) κc ++ cs)) (_ : va_S A s.heap H locs) (ls : Array Slot), lv_has ls 8 [(5, .int (ii r1)), (4, .int (ii zl)), (3, .int (ii s1)), (2, .int (ii 3)), (0, .ref (ad 0)), (1, .ref (ad 8))] → W p l e (rm4 4 0 0 93) s m args below meth c H locs 0 0 Q (F0 m 143 ls []) := by
                            intro t1 κc ge gf nc hnc hBc hLz H locs hP hD hS ls hl
                            refine li_iinc (a := r1) (lv' := [(5, .int (ii (r1 + 1))), (4, .int (ii zl)), (3, .int (ii s1)), (2, .int (ii 3)), (0, .ref (ad 0)), (1, .ref (ad 8))]) hx hb dX1_lists_143 hl (k := 0) rfl (by decide) rfl (fun ls hl => ?_)
                            refine lv_goto (tgt := 39) hx hb dX1_lists_146 (by decide) ?_
                            exact ih (r1 + 1) κc ge gf nc (by omega) (by omega) (by omega) (hBc) (by rw [show (30000 + 1000 * s1 + 100 * (r1 + 1)) = 30000 + 1000 * s1 + 100 * r1 + 100 by omega]; exact hLz) (by omega) H locs hP hD hS ls (lv_sub hl [0, 1, 2, 3, 4, 5] rfl)
                          have L94 : ∀ (n : Nat) (t1 : Int) (κc : mem) (ge : Int → Int) (gf : Int → Int) (nc : Int) (_ : 0 ≤ t1) (_ : t1 ≤ σ 8 0) (_ : 0 ≤ nc) (_ : nc ≤ 160 + 5 * s1 + ib r1 t1 5) (_ : LQ (lgl σ (σ 6) (σ 7)) (mvV σ) ge gf nc ((30000 + 1000 * s1 + 100 * r1) + 10 * y57_0 + t1) (30000 + 1000 * s1 + 100 * r1) t1 y57_0) (_ : (5 - t1).toNat < n) (H : Heap) (locs : List Loc) (_ : va_P G gcl (wD ad ty hv σ (up (up (up ς 0 ge) 1 gf) 2 (sc (nc))) κc ++ cs) H) (_ : va_D A (wD ad ty hv σ (up (up (up ς 0 ge) 1 gf) 2 (sc (nc))) κc ++ cs)) (_ : va_S A s.heap H locs) (ls : Array Slot), lv_has ls 8 [(7, .int (ii t1)), (6, .int (ii y57_0)), (5, .int (ii r1)), (4, .int (ii zl)), (3, .int (ii s1)), (2, .int (ii 3)), (0, .ref (ad 0)), (1, .ref (ad 8))] → W p l e (rm4 4 0 0 93) s m args below meth c H locs 0 0 Q (F0 m 94 ls []) := by
                            intro n
                            induction n with
                            | zero =>
                              intro t1 κc ge gf nc ht1a ht1b hnc hBc hLc hm
                              exact absurd hm (Nat.not_lt_zero _)
                            | succ n ih =>
                              intro t1 κc ge gf nc ht1a ht1b hnc hBc hLc hm H locs hP hD hS ls hl
                              refine lv_iload hx hb dX1_lists_94 (lv_at hl 1 rfl) ?_
                              refine li_iconst hx hb dX1_lists_96 ?_
                              refine li_iconst hx hb dX1_lists_97 ?_
                              refine kR (va_runS (As := [.int (ii y57_0), .int (ii 0), .int (ii 4)]) (rest := []) ⟨hx, hb, hml, hown, hts⟩ (m_isIn l G ty (wD ad ty hv σ (up (up (up ς 0 ge) 1 gf) 2 (sc (nc))) κc ++ cs) y57_0 0 4 ⟨by omega, by omega⟩ ⟨by decide, by decide⟩ ⟨by decide, by decide⟩) (va_cwS 3 hts (lw_S q117 q118 q76 q119) rfl rfl rfl (by decide +kernel) ⟨Nat.le_of_ble_eq_true rfl, Nat.le_of_ble_eq_true rfl⟩) (psR hK hP hD hX) rfl rfl hl.1 rfl (lv_room (Nat.le_of_ble_eq_true rfl)) dX1_lists_98 ⟨Nat.le_of_ble_eq_true rfl, Nat.le_of_ble_eq_true rfl⟩) (fun v hv => ?_)
                              obtain ⟨z98, rfl, ⟨rfl, h98⟩ | ⟨rfl, h98⟩⟩ := hv
                              · refine li_if_eq (tgt := 143) hx hb ⟨by decide, by decide⟩ dX1_lists_101 (by decide) (fun c101 => ?_) (fun c101 => ?_)
                                · exact absurd c101 (by decide)
                                · refine lv_iload hx hb dX1_lists_104 (lv_at hl 0 rfl) ?_
                                  refine lv_aload_n hx hb dX1_lists_106 rfl (lv_at hl 6 rfl) ?_
                                  refine va_get (D := G) (ci := 0) (v := .ref (ad 1)) (C := RX1) (T := TX1) (N := 21) hx hb hts in_X1 hown hK hP 0 (aD_0 _ _ _ _ _ _ _) rfl 0 (by decide) (hts _ q977) (fun _ h9 => h9) rfl dX1_lists_107 ?_
                                  refine va_get (D := G) (ci := 1) (v := .int (ii (σ 8 0))) (C := RX2) (T := TX2) (N := 13) hx hb hts in_X2 hown hK hP 1 (aD_1 _ _ _ _ _ _ _) rfl 4 (by decide) (hts _ q785) (fun _ h9 => h9) rfl dX1_lists_110 ?_
                                  refine li_icmp_ge (tgt := 143) hx hb ⟨by omega, by omega⟩ (rgi h8a h8b) dX1_lists_113 (by decide) (fun c113 => ?_) (fun c113 => ?_)
                                  · exact X94 t1 κc ge gf nc (by omega) (by have := ib_c r1 t1 5; have := ib_c (r1 + 1) 0 5; omega) (by rcases hLc with ⟨q1, q2, q3⟩ | ⟨q1, q2, q3⟩; exact LI_skip q3 (by omega) (by omega) (fun x a c h => by have h1 := hfrom x h (by omega) (by omega); have h2 := lgl_to h; omega); exact LI_skip q3 (by omega) (by omega) (fun x a c h => by have h1 := hfrom x h (by omega) (by omega); have := lgl_fr h; omega)) H locs hP hD hS ls (lv_sub hl [2, 3, 4, 5, 6, 7] rfl)
                                  · have hb0 : 0 ≤ y57_0 := h98.1
                                    have hb4 : y57_0 ≤ 4 := h98.2
                                    have hLe := LI_in hLc ⟨hb0, hb4⟩
                                    refine lv_aload_n hx hb dX1_lists_116 rfl (lv_at hl 6 rfl) ?_
                                    refine lv_aload_n hx hb dX1_lists_117 rfl (lv_at hl 6 rfl) ?_
                                    refine va_get (D := G) (ci := 0) (v := .ref (ad 31)) (C := RX1) (T := TX1) (N := 21) hx hb hts in_X1 hown hK hP 0 (aD_0 _ _ _ _ _ _ _) rfl 4 (by decide) (hts _ q981) (fun _ h9 => h9) rfl dX1_lists_118 ?_
                                    refine lv_iload_n hx hb dX1_lists_121 rfl (lv_at hl 5 rfl) ?_
                                    refine li_aald (q := ad 35) hx hb hK hP 31 5 (aD_31 _ _ _ _ _ _ _) rfl (by decide) (by decide) (by decide) (rfl) dX1_lists_122 ?_
                                    refine lv_iload_n hx hb dX1_lists_123 rfl (lv_at hl 4 rfl) ?_
                                    refine lv_iload hx hb dX1_lists_124 (lv_at hl 2 rfl) ?_
                                    refine lv_iload hx hb dX1_lists_126 (lv_at hl 1 rfl) ?_
                                    refine lv_iload hx hb dX1_lists_128 (lv_at hl 0 rfl) ?_
                                    refine v_tells (mi := 35) (md := ad 35) (a1 := s1) (a2 := r1) (a3 := y57_0) (a4 := t1) hx hb hml hown hts hK hP hD hX 3 (by decide) hS hA (aDk ad ty hv σ _ κc cs (by decide)) (Nat.le_of_ble_eq_true rfl) (Nat.le_of_ble_eq_true rfl) hl.1 (Nat.le_of_ble_eq_true rfl) ⟨Nat.le_of_ble_eq_true rfl, Nat.le_of_ble_eq_true rfl⟩ dX1_lists_130 (fun H locs hP hD hS => ?_)
                                    rw [aDk_set ad ty hv σ _ κc cs (show 3 < 7 by decide)] at hP hD
                                    refine lv_aload_n hx hb dX1_lists_133 rfl (lv_at hl 7 rfl) ?_
                                    refine kM (va_runV (As := [.ref (ad 35), .ref (ad 8)]) (rest := []) ⟨hx, hb, hml, hown, hts⟩ (m_tries_3N l G ad ty hv σ (up (up (up ς 0 ge) 1 gf) 2 (sc (nc))) (setk κc 3 (s1) (r1) (y57_0) (t1)) cs hW hWT hlgT ⟨hs1a, by show s1 ≤ 7; omega, hr1a, by show r1 ≤ 1; omega, hb0, hb4, ht1a, by show t1 ≤ 4; omega⟩ ⟨hnc, by show nc < 400; have := ib_c r1 t1 5; omega⟩ H.size) (cwV 2 hts (lw_V q553 q555 qs21 q76 q556) rfl rfl rfl (by decide +kernel) ⟨Nat.le_of_ble_eq_true rfl, Nat.le_of_ble_eq_true rfl⟩) (pvM (r := (RX1, TX1, 21)) hK hP hD hX 0 (aD_0 _ _ _ _ _ _ _) rfl) rfl rfl hl.1 rfl (lv_room (Nat.le_of_ble_eq_true rfl)) dX1_lists_134 ⟨Nat.le_of_ble_eq_true rfl, Nat.le_of_ble_eq_true rfl⟩) hD hS hA (fun v ws1 H locs hv hP hD hS => ?_)
                                    obtain ⟨gg, gh, nd, rfl, rfl, hadd⟩ := hv
                                    change (mnOk σ (σ 6) (σ 7) 3 s1 r1 y57_0 t1 ∧ gg = ug ge nc (30000 + 1000 * s1 + 100 * r1 + 10 * y57_0 + t1) ∧ gh = ug gf nc (mnV σ 3 s1 y57_0 t1) ∧ nd = nc + 1) ∨ (¬ mnOk σ (σ 6) (σ 7) 3 s1 r1 y57_0 t1 ∧ gg = ge ∧ gh = gf ∧ nd = nc) at hadd
                                    have hLd : LI (lgl σ (σ 6) (σ 7)) (mvV σ) gg gh nd ((30000 + 1000 * s1 + 100 * r1) + 10 * y57_0 + (t1 + 1)) := LI_mv hadd hLe (by omega) (by omega) (by omega) (by omega) (by omega) (by omega) (by omega) (by omega) (by omega) (by omega)
                                    have hnd : nc ≤ nd ∧ nd ≤ nc + 1 ∧ (nd = nc ∨ r1 = 0) := by
                                      rcases hadd with ⟨q1, -, -, q2⟩ | ⟨-, -, -, q2⟩
                                      · have q3 := (mnOk_3.mp q1).2.2.2.1; omega
                                      · omega
                                    have hP : va_P G gcl (wD ad ty hv σ (up (up (up ς 0 gg) 1 gh) 2 (sc (nd))) (setk κc 3 (s1) (r1) (y57_0) (t1)) ++ cs) H := hP
                                    have hD : va_D A (wD ad ty hv σ (up (up (up ς 0 gg) 1 gh) 2 (sc (nd))) (setk κc 3 (s1) (r1) (y57_0) (t1)) ++ cs) := hD
                                    refine li_iinc (a := t1) (lv' := [(7, .int (ii (t1 + 1))), (6, .int (ii y57_0)), (5, .int (ii r1)), (4, .int (ii zl)), (3, .int (ii s1)), (2, .int (ii 3)), (0, .ref (ad 0)), (1, .ref (ad 8))]) hx hb dX1_lists_137 hl (k := 0) rfl (by decide) rfl (fun ls hl => ?_)
                                    refine lv_goto (tgt := 94) hx hb dX1_lists_140 (by decide) ?_
                                    exact ih (t1 + 1) (setk κc 3 (s1) (r1) (y57_0) (t1)) gg gh nd (by omega) (by omega) (by omega) (by have := ib_c r1 t1 5; have := ib_c r1 (t1 + 1) 5; omega) (.inl ⟨hb0, hb4, hLd⟩) (by omega) H locs hP hD hS ls (lv_sub hl [0, 1, 2, 3, 4, 5, 6, 7] rfl)
                              · refine li_if_eq (tgt := 143) hx hb ⟨by decide, by decide⟩ dX1_lists_101 (by decide) (fun c101 => ?_) (fun c101 => ?_)
                                · exact X94 t1 κc ge gf nc (by omega) (by have := ib_c r1 t1 5; have := ib_c (r1 + 1) 0 5; omega) (by rcases hLc with ⟨q1, q2, q3⟩ | ⟨q1, q2, q3⟩; exact LI_skip q3 (by omega) (by omega) (fun x a c h => by have h1 := hfrom x h (by omega) (by omega); have h2 := lgl_to h; omega); exact LI_skip q3 (by omega) (by omega) (fun x a c h => by have h1 := hfrom x h (by omega) (by omega); have := lgl_fr h; omega)) H locs hP hD hS ls (lv_sub hl [2, 3, 4, 5, 6, 7] rfl)
                                · exact absurd c101 (by decide)
                          exact L94 _ 0 κb gc gd nb (by omega) (by omega) (by omega) (by have := ib_c r1 0 5; omega) (by rcases Classical.em (0 ≤ y57_0 ∧ y57_0 ≤ 4) with e | e; exact .inl ⟨e.1, e.2, LI_skip hLb (by omega) (by omega) (fun x a c h => by have := hfrom x h (by omega) (by omega); omega)⟩; exact .inr ⟨e, rfl, hLb⟩) (Nat.lt_succ_self _) H locs hP hD hS ls (lv_sub hl [0, 1, 2, 3, 4, 5, 6, 7] rfl)
                        refine li_if_ne (tgt := 87) hx hb ⟨by omega, by omega⟩ dX1_lists_57 (by decide) (fun c57 => ?_) (fun c57 => ?_)
                        · refine lv_iload hx hb dX1_lists_87 (lv_at hl 1 rfl) ?_
                          exact J57 _ (⟨by unfold beg; omega, by omega, by omega⟩) H locs hP hD hS ls (lv_sub hl [0, 1, 2, 3, 4, 5] rfl)
                        · refine lv_iload hx hb dX1_lists_60 (lv_at hl 0 rfl) ?_
                          refine lv_aload_n hx hb dX1_lists_62 rfl (lv_at hl 4 rfl) ?_
                          refine va_get (D := G) (ci := 0) (v := .ref (ad 1)) (C := RX1) (T := TX1) (N := 21) hx hb hts in_X1 hown hK hP 0 (aD_0 _ _ _ _ _ _ _) rfl 0 (by decide) (hts _ q977) (fun _ h9 => h9) rfl dX1_lists_63 ?_
                          refine va_get (D := G) (ci := 1) (v := .int (ii (σ 10 0))) (C := RX2) (T := TX2) (N := 13) hx hb hts in_X2 hown hK hP 1 (aD_1 _ _ _ _ _ _ _) rfl 8 (by decide) (hts _ q801) (fun _ h9 => h9) rfl dX1_lists_66 ?_
                          refine li_icmp_ge (tgt := 82) hx hb ⟨by omega, by omega⟩ (rgi h10a h10b) dX1_lists_69 (by decide) (fun c69 => ?_) (fun c69 => ?_)
                          · refine li_bipush hx hb dX1_lists_82 (by decide) ?_
                            refine lv_goto (tgt := 89) hx hb dX1_lists_84 (by decide) ?_
                            exact J57 _ (⟨by unfold beg; omega, by omega, by omega⟩) H locs hP hD hS ls (lv_sub hl [0, 1, 2, 3, 4, 5] rfl)
                          · refine lv_aload_n hx hb dX1_lists_72 rfl (lv_at hl 5 rfl) ?_
                            refine va_get (D := G) (ci := 2) (v := .ref (ad 10)) (C := RX3) (T := TX3) (N := 2) hx hb hts in_X3 hown hK hP 8 (aD_8 _ _ _ _ _ _ _) rfl 1 (by decide) (hts _ q664) (fun _ h9 => h9) rfl dX1_lists_73 ?_
                            refine lv_iload hx hb dX1_lists_76 (lv_at hl 0 rfl) ?_
                            refine li_iald (g := (σ 7)) hx hb hK hP 10 0 (aD_10 _ _ _ _ _ _ _) rfl (by omega) (by omega) (by decide) dX1_lists_78 ?_
                            have r79 := hs1 r1
                            refine lv_goto (tgt := 89) hx hb dX1_lists_79 (by decide) ?_
                            exact J57 _ (⟨by unfold beg; omega, by omega, by omega⟩) H locs hP hD hS ls (lv_sub hl [0, 1, 2, 3, 4, 5] rfl)
                      · refine lv_iload hx hb dX1_lists_51 (lv_at hl 0 rfl) ?_
                        refine li_if_ne (tgt := 149) hx hb ⟨by omega, by omega⟩ dX1_lists_53 (by decide) (fun c53 => ?_) (fun c53 => ?_)
                        · exact X39 r1 κb gc gd nb (by omega) (by have := ib_c r1 0 5; omega) (LI_skip hLb (by omega) (by omega) (fun x a c => lgl_rope_a h10a h10b (by omega) (by omega) (by omega) (by omega) (by omega))) H locs hP hD hS ls (lv_sub hl [2, 3, 4, 5] rfl)
                        · refine lv_iload_n hx hb dX1_lists_56 rfl (lv_at hl 2 rfl) ?_
                          have J57 : ∀ (y57_0 : Int) (_ : beg σ (σ 7) zl s1 r1 y57_0 ∧ -4 ≤ y57_0 ∧ y57_0 ≤ 5) (H : Heap) (locs : List Loc) (_ : va_P G gcl (wD ad ty hv σ (up (up (up ς 0 gc) 1 gd) 2 (sc (nb))) κb ++ cs) H) (_ : va_D A (wD ad ty hv σ (up (up (up ς 0 gc) 1 gd) 2 (sc (nb))) κb ++ cs)) (_ : va_S A s.heap H locs) (ls : Array Slot), lv_has ls 8 [(5, .int (ii r1)), (4, .int (ii zl)), (3, .int (ii s1)), (2, .int (ii 3)), (0, .ref (ad 0)), (1, .ref (ad 8))] → W p l e (rm4 4 0 0 93) s m args below meth c H locs 0 0 Q (F0 m 89 ls [.int (ii y57_0)]) := by
                            intro y57_0 hj57 H locs hP hD hS ls hl
                            refine lv_istore (lv' := [(6, .int (ii y57_0)), (5, .int (ii r1)), (4, .int (ii zl)), (3, .int (ii s1)), (2, .int (ii 3)), (0, .ref (ad 0)), (1, .ref (ad 8))]) hx hb dX1_lists_89 hl (by decide) rfl (fun ls hl => ?_)
                            have hfrom : ∀ x, lgl σ (σ 6) (σ 7) x → (30000 + 1000 * s1 + 100 * r1) ≤ x → x < (30000 + 1000 * s1 + 100 * r1) + 100 → x / 10 % 10 = y57_0 := fun x h a c => lgl_from h (k := 3) (s := s1) (r := r1) (by omega) (by omega) (by omega) hzl2 hj57.1
                            refine li_iconst hx hb dX1_lists_91 ?_
                            refine lv_istore (lv' := [(7, .int (ii 0)), (6, .int (ii y57_0)), (5, .int (ii r1)), (4, .int (ii zl)), (3, .int (ii s1)), (2, .int (ii 3)), (0, .ref (ad 0)), (1, .ref (ad 8))]) hx hb dX1_lists_92 hl (by decide) rfl (fun ls hl => ?_)
                            have X94 : ∀ (t1 : Int) (κc : mem) (ge : Int → Int) (gf : Int → Int) (nc : Int) (_ : 0 ≤ nc) (_ : nc ≤ 160 + 5 * s1 + ib (r1 + 1) 0 5) (_ : LI (lgl σ (σ 6) (σ 7)) (mvV σ) ge gf nc ((30000 + 1000 * s1 + 100 * r1) + 100)) (H : Heap) (locs : List Loc) (_ : va_P G gcl (wD ad ty hv σ (up (up (up ς 0 ge) 1 gf) 2 (sc (nc))) κc ++ cs) H) (_ : va_D A (wD ad ty hv σ (up (up (up ς 0 ge) 1 gf) 2 (sc (nc))) κc ++ cs)) (_ : va_S A s.heap H locs) (ls : Array Slot), lv_has ls 8 [(5, .int (ii r1)), (4, .int (ii zl)), (3, .int (ii s1)), (2, .int (ii 3)), (0, .ref (ad 0)), (1, .ref (ad 8))] → W p l e (rm4 4 0 0 93) s m args below meth c H locs 0 0 Q (F0 m 143 ls []) := by
                              intro t1 κc ge gf nc hnc hBc hLz H locs hP hD hS ls hl
                              refine li_iinc (a := r1) (lv' := [(5, .int (ii (r1 + 1))), (4, .int (ii zl)), (3, .int (ii s1)), (2, .int (ii 3)), (0, .ref (ad 0)), (1, .ref (ad 8))]) hx hb dX1_lists_143 hl (k := 0) rfl (by decide) rfl (fun ls hl => ?_)
                              refine lv_goto (tgt := 39) hx hb dX1_lists_146 (by decide) ?_
                              exact ih (r1 + 1) κc ge gf nc (by omega) (by omega) (by omega) (hBc) (by rw [show (30000 + 1000 * s1 + 100 * (r1 + 1)) = 30000 + 1000 * s1 + 100 * r1 + 100 by omega]; exact hLz) (by omega) H locs hP hD hS ls (lv_sub hl [0, 1, 2, 3, 4, 5] rfl)
                            have L94 : ∀ (n : Nat) (t1 : Int) (κc : mem) (ge : Int → Int) (gf : Int → Int) (nc : Int) (_ : 0 ≤ t1) (_ : t1 ≤ σ 8 0) (_ : 0 ≤ nc) (_ : nc ≤ 160 + 5 * s1 + ib r1 t1 5) (_ : LQ (lgl σ (σ 6) (σ 7)) (mvV σ) ge gf nc ((30000 + 1000 * s1 + 100 * r1) + 10 * y57_0 + t1) (30000 + 1000 * s1 + 100 * r1) t1 y57_0) (_ : (5 - t1).toNat < n) (H : Heap) (locs : List Loc) (_ : va_P G gcl (wD ad ty hv σ (up (up (up ς 0 ge) 1 gf) 2 (sc (nc))) κc ++ cs) H) (_ : va_D A (wD ad ty hv σ (up (up (up ς 0 ge) 1 gf) 2 (sc (nc))) κc ++ cs)) (_ : va_S A s.heap H locs) (ls : Array Slot), lv_has ls 8 [(7, .int (ii t1)), (6, .int (ii y57_0)), (5, .int (ii r1)), (4, .int (ii zl)), (3, .int (ii s1)), (2, .int (ii 3)), (0, .ref (ad 0)), (1, .ref (ad 8))] → W p l e (rm4 4 0 0 93) s m args below meth c H locs 0 0 Q (F0 m 94 ls []) := by
                              intro n
                              induction n with
                              | zero =>
                                intro t1 κc ge gf nc ht1a ht1b hnc hBc hLc hm
                                exact absurd hm (Nat.not_lt_zero _)
                              | succ n ih =>
                                intro t1 κc ge gf nc ht1a ht1b hnc hBc hLc hm H locs hP hD hS ls hl
                                refine lv_iload hx hb dX1_lists_94 (lv_at hl 1 rfl) ?_
                                refine li_iconst hx hb dX1_lists_96 ?_
                                refine li_iconst hx hb dX1_lists_97 ?_
                                refine kR (va_runS (As := [.int (ii y57_0), .int (ii 0), .int (ii 4)]) (rest := []) ⟨hx, hb, hml, hown, hts⟩ (m_isIn l G ty (wD ad ty hv σ (up (up (up ς 0 ge) 1 gf) 2 (sc (nc))) κc ++ cs) y57_0 0 4 ⟨by omega, by omega⟩ ⟨by decide, by decide⟩ ⟨by decide, by decide⟩) (va_cwS 3 hts (lw_S q117 q118 q76 q119) rfl rfl rfl (by decide +kernel) ⟨Nat.le_of_ble_eq_true rfl, Nat.le_of_ble_eq_true rfl⟩) (psR hK hP hD hX) rfl rfl hl.1 rfl (lv_room (Nat.le_of_ble_eq_true rfl)) dX1_lists_98 ⟨Nat.le_of_ble_eq_true rfl, Nat.le_of_ble_eq_true rfl⟩) (fun v hv => ?_)
                                obtain ⟨z98, rfl, ⟨rfl, h98⟩ | ⟨rfl, h98⟩⟩ := hv
                                · refine li_if_eq (tgt := 143) hx hb ⟨by decide, by decide⟩ dX1_lists_101 (by decide) (fun c101 => ?_) (fun c101 => ?_)
                                  · exact absurd c101 (by decide)
                                  · refine lv_iload hx hb dX1_lists_104 (lv_at hl 0 rfl) ?_
                                    refine lv_aload_n hx hb dX1_lists_106 rfl (lv_at hl 6 rfl) ?_
                                    refine va_get (D := G) (ci := 0) (v := .ref (ad 1)) (C := RX1) (T := TX1) (N := 21) hx hb hts in_X1 hown hK hP 0 (aD_0 _ _ _ _ _ _ _) rfl 0 (by decide) (hts _ q977) (fun _ h9 => h9) rfl dX1_lists_107 ?_
                                    refine va_get (D := G) (ci := 1) (v := .int (ii (σ 8 0))) (C := RX2) (T := TX2) (N := 13) hx hb hts in_X2 hown hK hP 1 (aD_1 _ _ _ _ _ _ _) rfl 4 (by decide) (hts _ q785) (fun _ h9 => h9) rfl dX1_lists_110 ?_
                                    refine li_icmp_ge (tgt := 143) hx hb ⟨by omega, by omega⟩ (rgi h8a h8b) dX1_lists_113 (by decide) (fun c113 => ?_) (fun c113 => ?_)
                                    · exact X94 t1 κc ge gf nc (by omega) (by have := ib_c r1 t1 5; have := ib_c (r1 + 1) 0 5; omega) (by rcases hLc with ⟨q1, q2, q3⟩ | ⟨q1, q2, q3⟩; exact LI_skip q3 (by omega) (by omega) (fun x a c h => by have h1 := hfrom x h (by omega) (by omega); have h2 := lgl_to h; omega); exact LI_skip q3 (by omega) (by omega) (fun x a c h => by have h1 := hfrom x h (by omega) (by omega); have := lgl_fr h; omega)) H locs hP hD hS ls (lv_sub hl [2, 3, 4, 5, 6, 7] rfl)
                                    · have hb0 : 0 ≤ y57_0 := h98.1
                                      have hb4 : y57_0 ≤ 4 := h98.2
                                      have hLe := LI_in hLc ⟨hb0, hb4⟩
                                      refine lv_aload_n hx hb dX1_lists_116 rfl (lv_at hl 6 rfl) ?_
                                      refine lv_aload_n hx hb dX1_lists_117 rfl (lv_at hl 6 rfl) ?_
                                      refine va_get (D := G) (ci := 0) (v := .ref (ad 31)) (C := RX1) (T := TX1) (N := 21) hx hb hts in_X1 hown hK hP 0 (aD_0 _ _ _ _ _ _ _) rfl 4 (by decide) (hts _ q981) (fun _ h9 => h9) rfl dX1_lists_118 ?_
                                      refine lv_iload_n hx hb dX1_lists_121 rfl (lv_at hl 5 rfl) ?_
                                      refine li_aald (q := ad 35) hx hb hK hP 31 5 (aD_31 _ _ _ _ _ _ _) rfl (by decide) (by decide) (by decide) (rfl) dX1_lists_122 ?_
                                      refine lv_iload_n hx hb dX1_lists_123 rfl (lv_at hl 4 rfl) ?_
                                      refine lv_iload hx hb dX1_lists_124 (lv_at hl 2 rfl) ?_
                                      refine lv_iload hx hb dX1_lists_126 (lv_at hl 1 rfl) ?_
                                      refine lv_iload hx hb dX1_lists_128 (lv_at hl 0 rfl) ?_
                                      refine v_tells (mi := 35) (md := ad 35) (a1 := s1) (a2 := r1) (a3 := y57_0) (a4 := t1) hx hb hml hown hts hK hP hD hX 3 (by decide) hS hA (aDk ad ty hv σ _ κc cs (by decide)) (Nat.le_of_ble_eq_true rfl) (Nat.le_of_ble_eq_true rfl) hl.1 (Nat.le_of_ble_eq_true rfl) ⟨Nat.le_of_ble_eq_true rfl, Nat.le_of_ble_eq_true rfl⟩ dX1_lists_130 (fun H locs hP hD hS => ?_)
                                      rw [aDk_set ad ty hv σ _ κc cs (show 3 < 7 by decide)] at hP hD
                                      refine lv_aload_n hx hb dX1_lists_133 rfl (lv_at hl 7 rfl) ?_
                                      refine kM (va_runV (As := [.ref (ad 35), .ref (ad 8)]) (rest := []) ⟨hx, hb, hml, hown, hts⟩ (m_tries_3N l G ad ty hv σ (up (up (up ς 0 ge) 1 gf) 2 (sc (nc))) (setk κc 3 (s1) (r1) (y57_0) (t1)) cs hW hWT hlgT ⟨hs1a, by show s1 ≤ 7; omega, hr1a, by show r1 ≤ 1; omega, hb0, hb4, ht1a, by show t1 ≤ 4; omega⟩ ⟨hnc, by show nc < 400; have := ib_c r1 t1 5; omega⟩ H.size) (cwV 2 hts (lw_V q553 q555 qs21 q76 q556) rfl rfl rfl (by decide +kernel) ⟨Nat.le_of_ble_eq_true rfl, Nat.le_of_ble_eq_true rfl⟩) (pvM (r := (RX1, TX1, 21)) hK hP hD hX 0 (aD_0 _ _ _ _ _ _ _) rfl) rfl rfl hl.1 rfl (lv_room (Nat.le_of_ble_eq_true rfl)) dX1_lists_134 ⟨Nat.le_of_ble_eq_true rfl, Nat.le_of_ble_eq_true rfl⟩) hD hS hA (fun v ws1 H locs hv hP hD hS => ?_)
                                      obtain ⟨gg, gh, nd, rfl, rfl, hadd⟩ := hv
                                      change (mnOk σ (σ 6) (σ 7) 3 s1 r1 y57_0 t1 ∧ gg = ug ge nc (30000 + 1000 * s1 + 100 * r1 + 10 * y57_0 + t1) ∧ gh = ug gf nc (mnV σ 3 s1 y57_0 t1) ∧ nd = nc + 1) ∨ (¬ mnOk σ (σ 6) (σ 7) 3 s1 r1 y57_0 t1 ∧ gg = ge ∧ gh = gf ∧ nd = nc) at hadd
                                      have hLd : LI (lgl σ (σ 6) (σ 7)) (mvV σ) gg gh nd ((30000 + 1000 * s1 + 100 * r1) + 10 * y57_0 + (t1 + 1)) := LI_mv hadd hLe (by omega) (by omega) (by omega) (by omega) (by omega) (by omega) (by omega) (by omega) (by omega) (by omega)
                                      have hnd : nc ≤ nd ∧ nd ≤ nc + 1 ∧ (nd = nc ∨ r1 = 0) := by
                                        rcases hadd with ⟨q1, -, -, q2⟩ | ⟨-, -, -, q2⟩
                                        · have q3 := (mnOk_3.mp q1).2.2.2.1; omega
                                        · omega
                                      have hP : va_P G gcl (wD ad ty hv σ (up (up (up ς 0 gg) 1 gh) 2 (sc (nd))) (setk κc 3 (s1) (r1) (y57_0) (t1)) ++ cs) H := hP
                                      have hD : va_D A (wD ad ty hv σ (up (up (up ς 0 gg) 1 gh) 2 (sc (nd))) (setk κc 3 (s1) (r1) (y57_0) (t1)) ++ cs) := hD
                                      refine li_iinc (a := t1) (lv' := [(7, .int (ii (t1 + 1))), (6, .int (ii y57_0)), (5, .int (ii r1)), (4, .int (ii zl)), (3, .int (ii s1)), (2, .int (ii 3)), (0, .ref (ad 0)), (1, .ref (ad 8))]) hx hb dX1_lists_137 hl (k := 0) rfl (by decide) rfl (fun ls hl => ?_)
                                      refine lv_goto (tgt := 94) hx hb dX1_lists_140 (by decide) ?_
                                      exact ih (t1 + 1) (setk κc 3 (s1) (r1) (y57_0) (t1)) gg gh nd (by omega) (by omega) (by omega) (by have := ib_c r1 t1 5; have := ib_c r1 (t1 + 1) 5; omega) (.inl ⟨hb0, hb4, hLd⟩) (by omega) H locs hP hD hS ls (lv_sub hl [0, 1, 2, 3, 4, 5, 6, 7] rfl)
                                · refine li_if_eq (tgt := 143) hx hb ⟨by decide, by decide⟩ dX1_lists_101 (by decide) (fun c101 => ?_) (fun c101 => ?_)
                                  · exact X94 t1 κc ge gf nc (by omega) (by have := ib_c r1 t1 5; have := ib_c (r1 + 1) 0 5; omega) (by rcases hLc with ⟨q1, q2, q3⟩ | ⟨q1, q2, q3⟩; exact LI_skip q3 (by omega) (by omega) (fun x a c h => by have h1 := hfrom x h (by omega) (by omega); have h2 := lgl_to h; omega); exact LI_skip q3 (by omega) (by omega) (fun x a c h => by have h1 := hfrom x h (by omega) (by omega); have := lgl_fr h; omega)) H locs hP hD hS ls (lv_sub hl [2, 3, 4, 5, 6, 7] rfl)
                                  · exact absurd c101 (by decide)
                            exact L94 _ 0 κb gc gd nb (by omega) (by omega) (by omega) (by have := ib_c r1 0 5; omega) (by rcases Classical.em (0 ≤ y57_0 ∧ y57_0 ≤ 4) with e | e; exact .inl ⟨e.1, e.2, LI_skip hLb (by omega) (by omega) (fun x a c h => by have := hfrom x h (by omega) (by omega); omega)⟩; exact .inr ⟨e, rfl, hLb⟩) (Nat.lt_succ_self _) H locs hP hD hS ls (lv_sub hl [0, 1, 2, 3, 4, 5, 6, 7] rfl)
                          refine li_if_ne (tgt := 87) hx hb ⟨by omega, by omega⟩ dX1_lists_57 (by decide) (fun c57 => ?_) (fun c57 => ?_)
                          · refine lv_iload hx hb dX1_lists_87 (lv_at hl 1 rfl) ?_
                            exact J57 _ (⟨by unfold beg; omega, by omega, by omega⟩) H locs hP hD hS ls (lv_sub hl [0, 1, 2, 3, 4, 5] rfl)
                          · refine lv_iload hx hb dX1_lists_60 (lv_at hl 0 rfl) ?_
                            refine lv_aload_n hx hb dX1_lists_62 rfl (lv_at hl 4 rfl) ?_
                            refine va_get (D := G) (ci := 0) (v := .ref (ad 1)) (C := RX1) (T := TX1) (N := 21) hx hb hts in_X1 hown hK hP 0 (aD_0 _ _ _ _ _ _ _) rfl 0 (by decide) (hts _ q977) (fun _ h9 => h9) rfl dX1_lists_63 ?_
                            refine va_get (D := G) (ci := 1) (v := .int (ii (σ 10 0))) (C := RX2) (T := TX2) (N := 13) hx hb hts in_X2 hown hK hP 1 (aD_1 _ _ _ _ _ _ _) rfl 8 (by decide) (hts _ q801) (fun _ h9 => h9) rfl dX1_lists_66 ?_
                            refine li_icmp_ge (tgt := 82) hx hb ⟨by omega, by omega⟩ (rgi h10a h10b) dX1_lists_69 (by decide) (fun c69 => ?_) (fun c69 => ?_)
                            · refine li_bipush hx hb dX1_lists_82 (by decide) ?_
                              refine lv_goto (tgt := 89) hx hb dX1_lists_84 (by decide) ?_
                              exact J57 _ (⟨by unfold beg; omega, by omega, by omega⟩) H locs hP hD hS ls (lv_sub hl [0, 1, 2, 3, 4, 5] rfl)
                            · refine lv_aload_n hx hb dX1_lists_72 rfl (lv_at hl 5 rfl) ?_
                              refine va_get (D := G) (ci := 2) (v := .ref (ad 10)) (C := RX3) (T := TX3) (N := 2) hx hb hts in_X3 hown hK hP 8 (aD_8 _ _ _ _ _ _ _) rfl 1 (by decide) (hts _ q664) (fun _ h9 => h9) rfl dX1_lists_73 ?_
                              refine lv_iload hx hb dX1_lists_76 (lv_at hl 0 rfl) ?_
                              refine li_iald (g := (σ 7)) hx hb hK hP 10 0 (aD_10 _ _ _ _ _ _ _) rfl (by omega) (by omega) (by decide) dX1_lists_78 ?_
                              have r79 := hs1 r1
                              refine lv_goto (tgt := 89) hx hb dX1_lists_79 (by decide) ?_
                              exact J57 _ (⟨by unfold beg; omega, by omega, by omega⟩) H locs hP hD hS ls (lv_sub hl [0, 1, 2, 3, 4, 5] rfl)
                  exact L39 _ 0 κa ga gb na (by omega) (by omega) (by omega) (by have := ib_c 0 0 5; omega) (by rw [show (30000 + 1000 * s1 + 100 * (0 : Int)) = 30000 + 1000 * s1 by omega]; exact hLa) (Nat.lt_succ_self _) H locs hP hD hS ls (lv_sub hl [0, 1, 2, 3, 4, 5] rfl)
            exact L15 _ 0 κa ga gb na (by omega) (by omega) (by omega) (by omega) (by omega) (by first | exact LI_skip (LI_0 _ _ _ _) (by decide) (by decide) (fun x a c => lgl_0 (by omega)) | (rw [show (30000 + 1000 * (0 : Int)) = 30000 by rfl]; exact hLx)) (Nat.lt_succ_self _) H locs hP hD hS ls (lv_sub hl [0, 1, 2, 3] rfl)
        have L15 : ∀ (n : Nat) (s1 : Int) (κa : mem) (ga : Int → Int) (gb : Int → Int) (na : Int) (_ : 0 ≤ s1) (_ : s1 ≤ p2 (σ 9 0)) (_ : s1 ≤ 8) (_ : 0 ≤ na) (_ : na ≤ 80 + 10 * s1) (_ : LI (lgl σ (σ 6) (σ 7)) (mvV σ) ga gb na (20000 + 1000 * s1)) (_ : (8 - s1).toNat < n) (H : Heap) (locs : List Loc) (_ : va_P G gcl (wD ad ty hv σ (up (up (up ς 0 ga) 1 gb) 2 (sc (na))) κa ++ cs) H) (_ : va_D A (wD ad ty hv σ (up (up (up ς 0 ga) 1 gb) 2 (sc (na))) κa ++ cs)) (_ : va_S A s.heap H locs) (ls : Array Slot), lv_has ls 8 [(3, .int (ii s1)), (2, .int (ii 2)), (0, .ref (ad 0)), (1, .ref (ad 8))] → W p l e (rm4 4 0 0 93) s m args below meth c H locs 0 0 Q (F0 m 15 ls []) := by
          intro n
          induction n with
          | zero =>
            intro s1 κa ga gb na hs1a hs1b hs7 hna hBa hLa hm
            exact absurd hm (Nat.not_lt_zero _)
          | succ n ih =>
            intro s1 κa ga gb na hs1a hs1b hs7 hna hBa hLa hm H locs hP hD hS ls hl
            refine lv_iload_n hx hb dX1_lists_15 rfl (lv_at hl 0 rfl) ?_
            refine li_iconst hx hb dX1_lists_16 ?_
            refine lv_aload_n hx hb dX1_lists_17 rfl (lv_at hl 2 rfl) ?_
            refine va_get (D := G) (ci := 0) (v := .ref (ad 1)) (C := RX1) (T := TX1) (N := 21) hx hb hts in_X1 hown hK hP 0 (aD_0 _ _ _ _ _ _ _) rfl 0 (by decide) (hts _ q977) (fun _ h9 => h9) rfl dX1_lists_18 ?_
            refine va_get (D := G) (ci := 1) (v := .int (ii (σ 9 0))) (C := RX2) (T := TX2) (N := 13) hx hb hts in_X2 hown hK hP 1 (aD_1 _ _ _ _ _ _ _) rfl 6 (by decide) (hts _ q790) (fun _ h9 => h9) rfl dX1_lists_21 ?_
            refine lv_ishl hx hb dX1_lists_24 ?_
            refine li_topx (z := p2 (σ 9 0)) (ii_shl1 h9a h9b) ?_
            refine li_icmp_ge (tgt := 155) hx hb ⟨by omega, by omega⟩ ⟨by omega, by omega⟩ dX1_lists_25 (by decide) (fun c25 => ?_) (fun c25 => ?_)
            · exact X15 s1 κa ga gb na (by omega) (by omega) (LI_skip hLa (by omega) (by omega) (fun x a c => lgl_set h9a h9b (by omega) (by omega))) H locs hP hD hS ls (lv_sub hl [1, 2, 3] rfl)
            · refine lv_aload_n hx hb dX1_lists_28 rfl (lv_at hl 2 rfl) ?_
              refine lv_iload_n hx hb dX1_lists_29 rfl (lv_at hl 0 rfl) ?_
              refine lv_aload_n hx hb dX1_lists_30 rfl (lv_at hl 3 rfl) ?_
              refine kR (va_runV (As := [.int (ii s1), .ref (ad 8)]) (rest := []) ⟨hx, hb, hml, hown, hts⟩ (m_ledgeOfN l G ad ty hv σ (up (up (up ς 0 ga) 1 gb) 2 (sc (na))) κa cs s1 hW hWT ⟨by omega, by omega⟩) (cwV 2 hts (lw_V q549 q551 qs20 q76 q552) rfl rfl rfl (by decide +kernel) ⟨Nat.le_of_ble_eq_true rfl, Nat.le_of_ble_eq_true rfl⟩) (pvR (r := (RX1, TX1, 21)) hK hP hD hX 0 (aD_0 _ _ _ _ _ _ _) rfl) rfl rfl hl.1 rfl (lv_room (Nat.le_of_ble_eq_true rfl)) dX1_lists_31 ⟨Nat.le_of_ble_eq_true rfl, Nat.le_of_ble_eq_true rfl⟩) (fun v hv => ?_)
              obtain ⟨zl, rfl, hzl, hzl2⟩ := hv
              replace hzl : -4 ≤ zl ∧ zl ≤ 4 := by omega
              refine lv_istore (lv' := [(4, .int (ii zl)), (3, .int (ii s1)), (2, .int (ii 2)), (0, .ref (ad 0)), (1, .ref (ad 8))]) hx hb dX1_lists_34 hl (by decide) rfl (fun ls hl => ?_)
              refine li_iconst hx hb dX1_lists_36 ?_
              refine lv_istore (lv' := [(5, .int (ii 0)), (4, .int (ii zl)), (3, .int (ii s1)), (2, .int (ii 2)), (0, .ref (ad 0)), (1, .ref (ad 8))]) hx hb dX1_lists_37 hl (by decide) rfl (fun ls hl => ?_)
              have X39 : ∀ (r1 : Int) (κb : mem) (gc : Int → Int) (gd : Int → Int) (nb : Int) (_ : 0 ≤ nb) (_ : nb ≤ 80 + 10 * (s1 + 1)) (_ : LI (lgl σ (σ 6) (σ 7)) (mvV σ) gc gd nb (20000 + 1000 * s1 + 1000)) (H : Heap) (locs : List Loc) (_ : va_P G gcl (wD ad ty hv σ (up (up (up ς 0 gc) 1 gd) 2 (sc (nb))) κb ++ cs) H) (_ : va_D A (wD ad ty hv σ (up (up (up ς 0 gc) 1 gd) 2 (sc (nb))) κb ++ cs)) (_ : va_S A s.heap H locs) (ls : Array Slot), lv_has ls 8 [(3, .int (ii s1)), (2, .int (ii 2)), (0, .ref (ad 0)), (1, .ref (ad 8))] → W p l e (rm4 4 0 0 93) s m args below meth c H locs 0 0 Q (F0 m 149 ls []) := by
                intro r1 κb gc gd nb hnb hBb hLy H locs hP hD hS ls hl
                refine li_iinc (a := s1) (lv' := [(3, .int (ii (s1 + 1))), (2, .int (ii 2)), (0, .ref (ad 0)), (1, .ref (ad 8))]) hx hb dX1_lists_149 hl (k := 0) rfl (by decide) rfl (fun ls hl => ?_)
                refine lv_goto (tgt := 15) hx hb dX1_lists_152 (by decide) ?_
                exact ih (s1 + 1) κb gc gd nb (by omega) (by omega) (by omega) (by omega) (hBb) (by rw [show (20000 + 1000 * (s1 + 1)) = 20000 + 1000 * s1 + 1000 by omega]; exact hLy) (by omega) H locs hP hD hS ls (lv_sub hl [0, 1, 2, 3] rfl)
              have L39 : ∀ (n : Nat) (r1 : Int) (κb : mem) (gc : Int → Int) (gd : Int → Int) (nb : Int) (_ : 0 ≤ r1) (_ : r1 ≤ 2) (_ : 0 ≤ nb) (_ : nb ≤ 80 + 10 * s1 + 5 * r1) (_ : LI (lgl σ (σ 6) (σ 7)) (mvV σ) gc gd nb (20000 + 1000 * s1 + 100 * r1)) (_ : (2 - r1).toNat < n) (H : Heap) (locs : List Loc) (_ : va_P G gcl (wD ad ty hv σ (up (up (up ς 0 gc) 1 gd) 2 (sc (nb))) κb ++ cs) H) (_ : va_D A (wD ad ty hv σ (up (up (up ς 0 gc) 1 gd) 2 (sc (nb))) κb ++ cs)) (_ : va_S A s.heap H locs) (ls : Array Slot), lv_has ls 8 [(5, .int (ii r1)), (4, .int (ii zl)), (3, .int (ii s1)), (2, .int (ii 2)), (0, .ref (ad 0)), (1, .ref (ad 8))] → W p l e (rm4 4 0 0 93) s m args below meth c H locs 0 0 Q (F0 m 39 ls []) := by
                intro n
                induction n with
                | zero =>
                  intro r1 κb gc gd nb hr1a hr1b hnb hBb hLb hm
                  exact absurd hm (Nat.not_lt_zero _)
                | succ n ih =>
                  intro r1 κb gc gd nb hr1a hr1b hnb hBb hLb hm H locs hP hD hS ls hl
                  refine lv_iload hx hb dX1_lists_39 (lv_at hl 0 rfl) ?_
                  refine lv_aload_n hx hb dX1_lists_41 rfl (lv_at hl 4 rfl) ?_
                  refine va_get (D := G) (ci := 0) (v := .ref (ad 1)) (C := RX1) (T := TX1) (N := 21) hx hb hts in_X1 hown hK hP 0 (aD_0 _ _ _ _ _ _ _) rfl 0 (by decide) (hts _ q977) (fun _ h9 => h9) rfl dX1_lists_42 ?_
                  refine va_get (D := G) (ci := 1) (v := .int (ii (σ 10 0))) (C := RX2) (T := TX2) (N := 13) hx hb hts in_X2 hown hK hP 1 (aD_1 _ _ _ _ _ _ _) rfl 8 (by decide) (hts _ q801) (fun _ h9 => h9) rfl dX1_lists_45 ?_
                  refine li_icmp_lt (tgt := 56) hx hb ⟨by omega, by omega⟩ (rgi h10a h10b) dX1_lists_48 (by decide) (fun c48 => ?_) (fun c48 => ?_)
                  · refine lv_iload_n hx hb dX1_lists_56 rfl (lv_at hl 2 rfl) ?_
                    have J57 : ∀ (y57_0 : Int) (_ : beg σ (σ 7) zl s1 r1 y57_0 ∧ -4 ≤ y57_0 ∧ y57_0 ≤ 5) (H : Heap) (locs : List Loc) (_ : va_P G gcl (wD ad ty hv σ (up (up (up ς 0 gc) 1 gd) 2 (sc (nb))) κb ++ cs) H) (_ : va_D A (wD ad ty hv σ (up (up (up ς 0 gc) 1 gd) 2 (sc (nb))) κb ++ cs)) (_ : va_S A s.heap H locs) (ls : Array Slot), lv_has ls 8 [(5, .int (ii r1)), (4, .int (ii zl)), (3, .int (ii s1)), (2, .int (ii 2)), (0, .ref (ad 0)), (1, .ref (ad 8))] → W p l e (rm4 4 0 0 93) s m args below meth c H locs 0 0 Q (F0 m 89 ls [.int (ii y57_0)]) := by
                      intro y57_0 hj57 H locs hP hD hS ls hl
                      refine lv_istore (lv' := [(6, .int (ii y57_0)), (5, .int (ii r1)), (4, .int (ii zl)), (3, .int (ii s1)), (2, .int (ii 2)), (0, .ref (ad 0)), (1, .ref (ad 8))]) hx hb dX1_lists_89 hl (by decide) rfl (fun ls hl => ?_)
                      have hfrom : ∀ x, lgl σ (σ 6) (σ 7) x → (20000 + 1000 * s1 + 100 * r1) ≤ x → x < (20000 + 1000 * s1 + 100 * r1) + 100 → x / 10 % 10 = y57_0 := fun x h a c => lgl_from h (k := 2) (s := s1) (r := r1) (by omega) (by omega) (by omega) hzl2 hj57.1
                      refine li_iconst hx hb dX1_lists_91 ?_
                      refine lv_istore (lv' := [(7, .int (ii 0)), (6, .int (ii y57_0)), (5, .int (ii r1)), (4, .int (ii zl)), (3, .int (ii s1)), (2, .int (ii 2)), (0, .ref (ad 0)), (1, .ref (ad 8))]) hx hb dX1_lists_92 hl (by decide) rfl (fun ls hl => ?_)
                      have X94 : ∀ (t1 : Int) (κc : mem) (ge : Int → Int) (gf : Int → Int) (nc : Int) (_ : 0 ≤ nc) (_ : nc ≤ 80 + 10 * s1 + 5 * (r1 + 1)) (_ : LI (lgl σ (σ 6) (σ 7)) (mvV σ) ge gf nc ((20000 + 1000 * s1 + 100 * r1) + 100)) (H : Heap) (locs : List Loc) (_ : va_P G gcl (wD ad ty hv σ (up (up (up ς 0 ge) 1 gf) 2 (sc (nc))) κc ++ cs) H) (_ : va_D A (wD ad ty hv σ (up (up (up ς 0 ge) 1 gf) 2 (sc (nc))) κc ++ cs)) (_ : va_S A s.heap H locs) (ls : Array Slot), lv_has ls 8 [(5, .int (ii r1)), (4, .int (ii zl)), (3, .int (ii s1)), (2, .int (ii 2)), (0, .ref (ad 0)), (1, .ref (ad 8))] → W p l e (rm4 4 0 0 93) s m args below meth c H locs 0 0 Q (F0 m 143 ls []) := by
                        intro t1 κc ge gf nc hnc hBc hLz H locs hP hD hS ls hl
                        refine li_iinc (a := r1) (lv' := [(5, .int (ii (r1 + 1))), (4, .int (ii zl)), (3, .int (ii s1)), (2, .int (ii 2)), (0, .ref (ad 0)), (1, .ref (ad 8))]) hx hb dX1_lists_143 hl (k := 0) rfl (by decide) rfl (fun ls hl => ?_)
                        refine lv_goto (tgt := 39) hx hb dX1_lists_146 (by decide) ?_
                        exact ih (r1 + 1) κc ge gf nc (by omega) (by omega) (by omega) (hBc) (by rw [show (20000 + 1000 * s1 + 100 * (r1 + 1)) = 20000 + 1000 * s1 + 100 * r1 + 100 by omega]; exact hLz) (by omega) H locs hP hD hS ls (lv_sub hl [0, 1, 2, 3, 4, 5] rfl)
                      have L94 : ∀ (n : Nat) (t1 : Int) (κc : mem) (ge : Int → Int) (gf : Int → Int) (nc : Int) (_ : 0 ≤ t1) (_ : t1 ≤ σ 8 0) (_ : 0 ≤ nc) (_ : nc ≤ 80 + 10 * s1 + 5 * r1 + t1) (_ : LQ (lgl σ (σ 6) (σ 7)) (mvV σ) ge gf nc ((20000 + 1000 * s1 + 100 * r1) + 10 * y57_0 + t1) (20000 + 1000 * s1 + 100 * r1) t1 y57_0) (_ : (5 - t1).toNat < n) (H : Heap) (locs : List Loc) (_ : va_P G gcl (wD ad ty hv σ (up (up (up ς 0 ge) 1 gf) 2 (sc (nc))) κc ++ cs) H) (_ : va_D A (wD ad ty hv σ (up (up (up ς 0 ge) 1 gf) 2 (sc (nc))) κc ++ cs)) (_ : va_S A s.heap H locs) (ls : Array Slot), lv_has ls 8 [(7, .int (ii t1)), (6, .int (ii y57_0)), (5, .int (ii r1)), (4, .int (ii zl)), (3, .int (ii s1)), (2, .int (ii 2)), (0, .ref (ad 0)), (1, .ref (ad 8))] → W p l e (rm4 4 0 0 93) s m args below meth c H locs 0 0 Q (F0 m 94 ls []) := by
                        intro n
                        induction n with
                        | zero =>
                          intro t1 κc ge gf nc ht1a ht1b hnc hBc hLc hm
                          exact absurd hm (Nat.not_lt_zero _)
                        | succ n ih =>
                          intro t1 κc ge gf nc ht1a ht1b hnc hBc hLc hm H locs hP hD hS ls hl
                          refine lv_iload hx hb dX1_lists_94 (lv_at hl 1 rfl) ?_
                          refine li_iconst hx hb dX1_lists_96 ?_
                          refine li_iconst hx hb dX1_lists_97 ?_
                          refine kR (va_runS (As := [.int (ii y57_0), .int (ii 0), .int (ii 4)]) (rest := []) ⟨hx, hb, hml, hown, hts⟩ (m_isIn l G ty (wD ad ty hv σ (up (up (up ς 0 ge) 1 gf) 2 (sc (nc))) κc ++ cs) y57_0 0 4 ⟨by omega, by omega⟩ ⟨by decide, by decide⟩ ⟨by decide, by decide⟩) (va_cwS 3 hts (lw_S q117 q118 q76 q119) rfl rfl rfl (by decide +kernel) ⟨Nat.le_of_ble_eq_true rfl, Nat.le_of_ble_eq_true rfl⟩) (psR hK hP hD hX) rfl rfl hl.1 rfl (lv_room (Nat.le_of_ble_eq_true rfl)) dX1_lists_98 ⟨Nat.le_of_ble_eq_true rfl, Nat.le_of_ble_eq_true rfl⟩) (fun v hv => ?_)
                          obtain ⟨z98, rfl, ⟨rfl, h98⟩ | ⟨rfl, h98⟩⟩ := hv
                          · refine li_if_eq (tgt := 143) hx hb ⟨by decide, by decide⟩ dX1_lists_101 (by decide) (fun c101 => ?_) (fun c101 => ?_)
                            · exact absurd c101 (by decide)
                            · refine lv_iload hx hb dX1_lists_104 (lv_at hl 0 rfl) ?_
                              refine lv_aload_n hx hb dX1_lists_106 rfl (lv_at hl 6 rfl) ?_
                              refine va_get (D := G) (ci := 0) (v := .ref (ad 1)) (C := RX1) (T := TX1) (N := 21) hx hb hts in_X1 hown hK hP 0 (aD_0 _ _ _ _ _ _ _) rfl 0 (by decide) (hts _ q977) (fun _ h9 => h9) rfl dX1_lists_107 ?_
                              refine va_get (D := G) (ci := 1) (v := .int (ii (σ 8 0))) (C := RX2) (T := TX2) (N := 13) hx hb hts in_X2 hown hK hP 1 (aD_1 _ _ _ _ _ _ _) rfl 4 (by decide) (hts _ q785) (fun _ h9 => h9) rfl dX1_lists_110 ?_
                              refine li_icmp_ge (tgt := 143) hx hb ⟨by omega, by omega⟩ (rgi h8a h8b) dX1_lists_113 (by decide) (fun c113 => ?_) (fun c113 => ?_)
                              · exact X94 t1 κc ge gf nc (by omega) (by omega) (by rcases hLc with ⟨q1, q2, q3⟩ | ⟨q1, q2, q3⟩; exact LI_skip q3 (by omega) (by omega) (fun x a c h => by have h1 := hfrom x h (by omega) (by omega); have h2 := lgl_to h; omega); exact LI_skip q3 (by omega) (by omega) (fun x a c h => by have h1 := hfrom x h (by omega) (by omega); have := lgl_fr h; omega)) H locs hP hD hS ls (lv_sub hl [2, 3, 4, 5, 6, 7] rfl)
                              · have hb0 : 0 ≤ y57_0 := h98.1
                                have hb4 : y57_0 ≤ 4 := h98.2
                                have hLe := LI_in hLc ⟨hb0, hb4⟩
                                refine lv_aload_n hx hb dX1_lists_116 rfl (lv_at hl 6 rfl) ?_
                                refine lv_aload_n hx hb dX1_lists_117 rfl (lv_at hl 6 rfl) ?_
                                refine va_get (D := G) (ci := 0) (v := .ref (ad 31)) (C := RX1) (T := TX1) (N := 21) hx hb hts in_X1 hown hK hP 0 (aD_0 _ _ _ _ _ _ _) rfl 4 (by decide) (hts _ q981) (fun _ h9 => h9) rfl dX1_lists_118 ?_
                                refine lv_iload_n hx hb dX1_lists_121 rfl (lv_at hl 5 rfl) ?_
                                refine li_aald (q := ad 34) hx hb hK hP 31 5 (aD_31 _ _ _ _ _ _ _) rfl (by decide) (by decide) (by decide) (rfl) dX1_lists_122 ?_
                                refine lv_iload_n hx hb dX1_lists_123 rfl (lv_at hl 4 rfl) ?_
                                refine lv_iload hx hb dX1_lists_124 (lv_at hl 2 rfl) ?_
                                refine lv_iload hx hb dX1_lists_126 (lv_at hl 1 rfl) ?_
                                refine lv_iload hx hb dX1_lists_128 (lv_at hl 0 rfl) ?_
                                refine v_tells (mi := 34) (md := ad 34) (a1 := s1) (a2 := r1) (a3 := y57_0) (a4 := t1) hx hb hml hown hts hK hP hD hX 2 (by decide) hS hA (aDk ad ty hv σ _ κc cs (by decide)) (Nat.le_of_ble_eq_true rfl) (Nat.le_of_ble_eq_true rfl) hl.1 (Nat.le_of_ble_eq_true rfl) ⟨Nat.le_of_ble_eq_true rfl, Nat.le_of_ble_eq_true rfl⟩ dX1_lists_130 (fun H locs hP hD hS => ?_)
                                rw [aDk_set ad ty hv σ _ κc cs (show 2 < 7 by decide)] at hP hD
                                refine lv_aload_n hx hb dX1_lists_133 rfl (lv_at hl 7 rfl) ?_
                                refine kM (va_runV (As := [.ref (ad 34), .ref (ad 8)]) (rest := []) ⟨hx, hb, hml, hown, hts⟩ (m_tries_2N l G ad ty hv σ (up (up (up ς 0 ge) 1 gf) 2 (sc (nc))) (setk κc 2 (s1) (r1) (y57_0) (t1)) cs hW hWT hlgT ⟨hs1a, by show s1 ≤ 7; omega, hr1a, by show r1 ≤ 1; omega, hb0, hb4, ht1a, by show t1 ≤ 4; omega⟩ ⟨hnc, by show nc < 400; omega⟩ H.size) (cwV 2 hts (lw_V q553 q555 qs21 q76 q556) rfl rfl rfl (by decide +kernel) ⟨Nat.le_of_ble_eq_true rfl, Nat.le_of_ble_eq_true rfl⟩) (pvM (r := (RX1, TX1, 21)) hK hP hD hX 0 (aD_0 _ _ _ _ _ _ _) rfl) rfl rfl hl.1 rfl (lv_room (Nat.le_of_ble_eq_true rfl)) dX1_lists_134 ⟨Nat.le_of_ble_eq_true rfl, Nat.le_of_ble_eq_true rfl⟩) hD hS hA (fun v ws1 H locs hv hP hD hS => ?_)
                                obtain ⟨gg, gh, nd, rfl, rfl, hadd⟩ := hv
                                change (mnOk σ (σ 6) (σ 7) 2 s1 r1 y57_0 t1 ∧ gg = ug ge nc (20000 + 1000 * s1 + 100 * r1 + 10 * y57_0 + t1) ∧ gh = ug gf nc (mnV σ 2 s1 y57_0 t1) ∧ nd = nc + 1) ∨ (¬ mnOk σ (σ 6) (σ 7) 2 s1 r1 y57_0 t1 ∧ gg = ge ∧ gh = gf ∧ nd = nc) at hadd
                                have hLd : LI (lgl σ (σ 6) (σ 7)) (mvV σ) gg gh nd ((20000 + 1000 * s1 + 100 * r1) + 10 * y57_0 + (t1 + 1)) := LI_mv hadd hLe (by omega) (by omega) (by omega) (by omega) (by omega) (by omega) (by omega) (by omega) (by omega) (by omega)
                                have hnd : nc ≤ nd ∧ nd ≤ nc + 1 := by
                                  rcases hadd with ⟨q1, -, -, q2⟩ | ⟨-, -, -, q2⟩
                                  · omega
                                  · omega
                                have hP : va_P G gcl (wD ad ty hv σ (up (up (up ς 0 gg) 1 gh) 2 (sc (nd))) (setk κc 2 (s1) (r1) (y57_0) (t1)) ++ cs) H := hP
                                have hD : va_D A (wD ad ty hv σ (up (up (up ς 0 gg) 1 gh) 2 (sc (nd))) (setk κc 2 (s1) (r1) (y57_0) (t1)) ++ cs) := hD
                                refine li_iinc (a := t1) (lv' := [(7, .int (ii (t1 + 1))), (6, .int (ii y57_0)), (5, .int (ii r1)), (4, .int (ii zl)), (3, .int (ii s1)), (2, .int (ii 2)), (0, .ref (ad 0)), (1, .ref (ad 8))]) hx hb dX1_lists_137 hl (k := 0) rfl (by decide) rfl (fun ls hl => ?_)
                                refine lv_goto (tgt := 94) hx hb dX1_lists_140 (by decide) ?_
                                exact ih (t1 + 1) (setk κc 2 (s1) (r1) (y57_0) (t1)) gg gh nd (by omega) (by omega) (by omega) (by omega) (.inl ⟨hb0, hb4, hLd⟩) (by omega) H locs hP hD hS ls (lv_sub hl [0, 1, 2, 3, 4, 5, 6, 7] rfl)
                          · refine li_if_eq (tgt := 143) hx hb ⟨by decide, by decide⟩ dX1_lists_101 (by decide) (fun c101 => ?_) (fun c101 => ?_)
                            · exact X94 t1 κc ge gf nc (by omega) (by omega) (by rcases hLc with ⟨q1, q2, q3⟩ | ⟨q1, q2, q3⟩; exact LI_skip q3 (by omega) (by omega) (fun x a c h => by have h1 := hfrom x h (by omega) (by omega); have h2 := lgl_to h; omega); exact LI_skip q3 (by omega) (by omega) (fun x a c h => by have h1 := hfrom x h (by omega) (by omega); have := lgl_fr h; omega)) H locs hP hD hS ls (lv_sub hl [2, 3, 4, 5, 6, 7] rfl)
                            · exact absurd c101 (by decide)
                      exact L94 _ 0 κb gc gd nb (by omega) (by omega) (by omega) (by omega) (by rcases Classical.em (0 ≤ y57_0 ∧ y57_0 ≤ 4) with e | e; exact .inl ⟨e.1, e.2, LI_skip hLb (by omega) (by omega) (fun x a c h => by have := hfrom x h (by omega) (by omega); omega)⟩; exact .inr ⟨e, rfl, hLb⟩) (Nat.lt_succ_self _) H locs hP hD hS ls (lv_sub hl [0, 1, 2, 3, 4, 5, 6, 7] rfl)
                    refine li_if_ne (tgt := 87) hx hb ⟨by omega, by omega⟩ dX1_lists_57 (by decide) (fun c57 => ?_) (fun c57 => ?_)
                    · refine lv_iload hx hb dX1_lists_87 (lv_at hl 1 rfl) ?_
                      exact J57 _ (⟨by unfold beg; omega, by omega, by omega⟩) H locs hP hD hS ls (lv_sub hl [0, 1, 2, 3, 4, 5] rfl)
                    · refine lv_iload hx hb dX1_lists_60 (lv_at hl 0 rfl) ?_
                      refine lv_aload_n hx hb dX1_lists_62 rfl (lv_at hl 4 rfl) ?_
                      refine va_get (D := G) (ci := 0) (v := .ref (ad 1)) (C := RX1) (T := TX1) (N := 21) hx hb hts in_X1 hown hK hP 0 (aD_0 _ _ _ _ _ _ _) rfl 0 (by decide) (hts _ q977) (fun _ h9 => h9) rfl dX1_lists_63 ?_
                      refine va_get (D := G) (ci := 1) (v := .int (ii (σ 10 0))) (C := RX2) (T := TX2) (N := 13) hx hb hts in_X2 hown hK hP 1 (aD_1 _ _ _ _ _ _ _) rfl 8 (by decide) (hts _ q801) (fun _ h9 => h9) rfl dX1_lists_66 ?_
                      refine li_icmp_ge (tgt := 82) hx hb ⟨by omega, by omega⟩ (rgi h10a h10b) dX1_lists_69 (by decide) (fun c69 => ?_) (fun c69 => ?_)
                      · refine li_bipush hx hb dX1_lists_82 (by decide) ?_
                        refine lv_goto (tgt := 89) hx hb dX1_lists_84 (by decide) ?_
                        exact J57 _ (⟨by unfold beg; omega, by omega, by omega⟩) H locs hP hD hS ls (lv_sub hl [0, 1, 2, 3, 4, 5] rfl)
                      · refine lv_aload_n hx hb dX1_lists_72 rfl (lv_at hl 5 rfl) ?_
                        refine va_get (D := G) (ci := 2) (v := .ref (ad 10)) (C := RX3) (T := TX3) (N := 2) hx hb hts in_X3 hown hK hP 8 (aD_8 _ _ _ _ _ _ _) rfl 1 (by decide) (hts _ q664) (fun _ h9 => h9) rfl dX1_lists_73 ?_
                        refine lv_iload hx hb dX1_lists_76 (lv_at hl 0 rfl) ?_
                        refine li_iald (g := (σ 7)) hx hb hK hP 10 0 (aD_10 _ _ _ _ _ _ _) rfl (by omega) (by omega) (by decide) dX1_lists_78 ?_
                        have r79 := hs1 r1
                        refine lv_goto (tgt := 89) hx hb dX1_lists_79 (by decide) ?_
                        exact J57 _ (⟨by unfold beg; omega, by omega, by omega⟩) H locs hP hD hS ls (lv_sub hl [0, 1, 2, 3, 4, 5] rfl)
                  · refine lv_iload hx hb dX1_lists_51 (lv_at hl 0 rfl) ?_
                    refine li_if_ne (tgt := 149) hx hb ⟨by omega, by omega⟩ dX1_lists_53 (by decide) (fun c53 => ?_) (fun c53 => ?_)
                    · exact X39 r1 κb gc gd nb (by omega) (by omega) (LI_skip hLb (by omega) (by omega) (fun x a c => lgl_rope_a h10a h10b (by omega) (by omega) (by omega) (by omega) (by omega))) H locs hP hD hS ls (lv_sub hl [2, 3, 4, 5] rfl)
                    · refine lv_iload_n hx hb dX1_lists_56 rfl (lv_at hl 2 rfl) ?_
                      have J57 : ∀ (y57_0 : Int) (_ : beg σ (σ 7) zl s1 r1 y57_0 ∧ -4 ≤ y57_0 ∧ y57_0 ≤ 5) (H : Heap) (locs : List Loc) (_ : va_P G gcl (wD ad ty hv σ (up (up (up ς 0 gc) 1 gd) 2 (sc (nb))) κb ++ cs) H) (_ : va_D A (wD ad ty hv σ (up (up (up ς 0 gc) 1 gd) 2 (sc (nb))) κb ++ cs)) (_ : va_S A s.heap H locs) (ls : Array Slot), lv_has ls 8 [(5, .int (ii r1)), (4, .int (ii zl)), (3, .int (ii s1)), (2, .int (ii 2)), (0, .ref (ad 0)), (1, .ref (ad 8))] → W p l e (rm4 4 0 0 93) s m args below meth c H locs 0 0 Q (F0 m 89 ls [.int (ii y57_0)]) := by
                        intro y57_0 hj57 H locs hP hD hS ls hl
                        refine lv_istore (lv' := [(6, .int (ii y57_0)), (5, .int (ii r1)), (4, .int (ii zl)), (3, .int (ii s1)), (2, .int (ii 2)), (0, .ref (ad 0)), (1, .ref (ad 8))]) hx hb dX1_lists_89 hl (by decide) rfl (fun ls hl => ?_)
                        have hfrom : ∀ x, lgl σ (σ 6) (σ 7) x → (20000 + 1000 * s1 + 100 * r1) ≤ x → x < (20000 + 1000 * s1 + 100 * r1) + 100 → x / 10 % 10 = y57_0 := fun x h a c => lgl_from h (k := 2) (s := s1) (r := r1) (by omega) (by omega) (by omega) hzl2 hj57.1
                        refine li_iconst hx hb dX1_lists_91 ?_
                        refine lv_istore (lv' := [(7, .int (ii 0)), (6, .int (ii y57_0)), (5, .int (ii r1)), (4, .int (ii zl)), (3, .int (ii s1)), (2, .int (ii 2)), (0, .ref (ad 0)), (1, .ref (ad 8))]) hx hb dX1_lists_92 hl (by decide) rfl (fun ls hl => ?_)
                        have X94 : ∀ (t1 : Int) (κc : mem) (ge : Int → Int) (gf : Int → Int) (nc : Int) (_ : 0 ≤ nc) (_ : nc ≤ 80 + 10 * s1 + 5 * (r1 + 1)) (_ : LI (lgl σ (σ 6) (σ 7)) (mvV σ) ge gf nc ((20000 + 1000 * s1 + 100 * r1) + 100)) (H : Heap) (locs : List Loc) (_ : va_P G gcl (wD ad ty hv σ (up (up (up ς 0 ge) 1 gf) 2 (sc (nc))) κc ++ cs) H) (_ : va_D A (wD ad ty hv σ (up (up (up ς 0 ge) 1 gf) 2 (sc (nc))) κc ++ cs)) (_ : va_S A s.heap H locs) (ls : Array Slot), lv_has ls 8 [(5, .int (ii r1)), (4, .int (ii zl)), (3, .int (ii s1)), (2, .int (ii 2)), (0, .ref (ad 0)), (1, .ref (ad 8))] → W p l e (rm4 4 0 0 93) s m args below meth c H locs 0 0 Q (F0 m 143 ls []) := by
                          intro t1 κc ge gf nc hnc hBc hLz H locs hP hD hS ls hl
                          refine li_iinc (a := r1) (lv' := [(5, .int (ii (r1 + 1))), (4, .int (ii zl)), (3, .int (ii s1)), (2, .int (ii 2)), (0, .ref (ad 0)), (1, .ref (ad 8))]) hx hb dX1_lists_143 hl (k := 0) rfl (by decide) rfl (fun ls hl => ?_)
                          refine lv_goto (tgt := 39) hx hb dX1_lists_146 (by decide) ?_
                          exact ih (r1 + 1) κc ge gf nc (by omega) (by omega) (by omega) (hBc) (by rw [show (20000 + 1000 * s1 + 100 * (r1 + 1)) = 20000 + 1000 * s1 + 100 * r1 + 100 by omega]; exact hLz) (by omega) H locs hP hD hS ls (lv_sub hl [0, 1, 2, 3, 4, 5] rfl)
                        have L94 : ∀ (n : Nat) (t1 : Int) (κc : mem) (ge : Int → Int) (gf : Int → Int) (nc : Int) (_ : 0 ≤ t1) (_ : t1 ≤ σ 8 0) (_ : 0 ≤ nc) (_ : nc ≤ 80 + 10 * s1 + 5 * r1 + t1) (_ : LQ (lgl σ (σ 6) (σ 7)) (mvV σ) ge gf nc ((20000 + 1000 * s1 + 100 * r1) + 10 * y57_0 + t1) (20000 + 1000 * s1 + 100 * r1) t1 y57_0) (_ : (5 - t1).toNat < n) (H : Heap) (locs : List Loc) (_ : va_P G gcl (wD ad ty hv σ (up (up (up ς 0 ge) 1 gf) 2 (sc (nc))) κc ++ cs) H) (_ : va_D A (wD ad ty hv σ (up (up (up ς 0 ge) 1 gf) 2 (sc (nc))) κc ++ cs)) (_ : va_S A s.heap H locs) (ls : Array Slot), lv_has ls 8 [(7, .int (ii t1)), (6, .int (ii y57_0)), (5, .int (ii r1)), (4, .int (ii zl)), (3, .int (ii s1)), (2, .int (ii 2)), (0, .ref (ad 0)), (1, .ref (ad 8))] → W p l e (rm4 4 0 0 93) s m args below meth c H locs 0 0 Q (F0 m 94 ls []) := by
                          intro n
                          induction n with
                          | zero =>
                            intro t1 κc ge gf nc ht1a ht1b hnc hBc hLc hm
                            exact absurd hm (Nat.not_lt_zero _)
                          | succ n ih =>
                            intro t1 κc ge gf nc ht1a ht1b hnc hBc hLc hm H locs hP hD hS ls hl
                            refine lv_iload hx hb dX1_lists_94 (lv_at hl 1 rfl) ?_
                            refine li_iconst hx hb dX1_lists_96 ?_
                            refine li_iconst hx hb dX1_lists_97 ?_
                            refine kR (va_runS (As := [.int (ii y57_0), .int (ii 0), .int (ii 4)]) (rest := []) ⟨hx, hb, hml, hown, hts⟩ (m_isIn l G ty (wD ad ty hv σ (up (up (up ς 0 ge) 1 gf) 2 (sc (nc))) κc ++ cs) y57_0 0 4 ⟨by omega, by omega⟩ ⟨by decide, by decide⟩ ⟨by decide, by decide⟩) (va_cwS 3 hts (lw_S q117 q118 q76 q119) rfl rfl rfl (by decide +kernel) ⟨Nat.le_of_ble_eq_true rfl, Nat.le_of_ble_eq_true rfl⟩) (psR hK hP hD hX) rfl rfl hl.1 rfl (lv_room (Nat.le_of_ble_eq_true rfl)) dX1_lists_98 ⟨Nat.le_of_ble_eq_true rfl, Nat.le_of_ble_eq_true rfl⟩) (fun v hv => ?_)
                            obtain ⟨z98, rfl, ⟨rfl, h98⟩ | ⟨rfl, h98⟩⟩ := hv
                            · refine li_if_eq (tgt := 143) hx hb ⟨by decide, by decide⟩ dX1_lists_101 (by decide) (fun c101 => ?_) (fun c101 => ?_)
                              · exact absurd c101 (by decide)
                              · refine lv_iload hx hb dX1_lists_104 (lv_at hl 0 rfl) ?_
                                refine lv_aload_n hx hb dX1_lists_106 rfl (lv_at hl 6 rfl) ?_
                                refine va_get (D := G) (ci := 0) (v := .ref (ad 1)) (C := RX1) (T := TX1) (N := 21) hx hb hts in_X1 hown hK hP 0 (aD_0 _ _ _ _ _ _ _) rfl 0 (by decide) (hts _ q977) (fun _ h9 => h9) rfl dX1_lists_107 ?_
                                refine va_get (D := G) (ci := 1) (v := .int (ii (σ 8 0))) (C := RX2) (T := TX2) (N := 13) hx hb hts in_X2 hown hK hP 1 (aD_1 _ _ _ _ _ _ _) rfl 4 (by decide) (hts _ q785) (fun _ h9 => h9) rfl dX1_lists_110 ?_
                                refine li_icmp_ge (tgt := 143) hx hb ⟨by omega, by omega⟩ (rgi h8a h8b) dX1_lists_113 (by decide) (fun c113 => ?_) (fun c113 => ?_)
                                · exact X94 t1 κc ge gf nc (by omega) (by omega) (by rcases hLc with ⟨q1, q2, q3⟩ | ⟨q1, q2, q3⟩; exact LI_skip q3 (by omega) (by omega) (fun x a c h => by have h1 := hfrom x h (by omega) (by omega); have h2 := lgl_to h; omega); exact LI_skip q3 (by omega) (by omega) (fun x a c h => by have h1 := hfrom x h (by omega) (by omega); have := lgl_fr h; omega)) H locs hP hD hS ls (lv_sub hl [2, 3, 4, 5, 6, 7] rfl)
                                · have hb0 : 0 ≤ y57_0 := h98.1
                                  have hb4 : y57_0 ≤ 4 := h98.2
                                  have hLe := LI_in hLc ⟨hb0, hb4⟩
                                  refine lv_aload_n hx hb dX1_lists_116 rfl (lv_at hl 6 rfl) ?_
                                  refine lv_aload_n hx hb dX1_lists_117 rfl (lv_at hl 6 rfl) ?_
                                  refine va_get (D := G) (ci := 0) (v := .ref (ad 31)) (C := RX1) (T := TX1) (N := 21) hx hb hts in_X1 hown hK hP 0 (aD_0 _ _ _ _ _ _ _) rfl 4 (by decide) (hts _ q981) (fun _ h9 => h9) rfl dX1_lists_118 ?_
                                  refine lv_iload_n hx hb dX1_lists_121 rfl (lv_at hl 5 rfl) ?_
                                  refine li_aald (q := ad 34) hx hb hK hP 31 5 (aD_31 _ _ _ _ _ _ _) rfl (by decide) (by decide) (by decide) (rfl) dX1_lists_122 ?_
                                  refine lv_iload_n hx hb dX1_lists_123 rfl (lv_at hl 4 rfl) ?_
                                  refine lv_iload hx hb dX1_lists_124 (lv_at hl 2 rfl) ?_
                                  refine lv_iload hx hb dX1_lists_126 (lv_at hl 1 rfl) ?_
                                  refine lv_iload hx hb dX1_lists_128 (lv_at hl 0 rfl) ?_
                                  refine v_tells (mi := 34) (md := ad 34) (a1 := s1) (a2 := r1) (a3 := y57_0) (a4 := t1) hx hb hml hown hts hK hP hD hX 2 (by decide) hS hA (aDk ad ty hv σ _ κc cs (by decide)) (Nat.le_of_ble_eq_true rfl) (Nat.le_of_ble_eq_true rfl) hl.1 (Nat.le_of_ble_eq_true rfl) ⟨Nat.le_of_ble_eq_true rfl, Nat.le_of_ble_eq_true rfl⟩ dX1_lists_130 (fun H locs hP hD hS => ?_)
                                  rw [aDk_set ad ty hv σ _ κc cs (show 2 < 7 by decide)] at hP hD
                                  refine lv_aload_n hx hb dX1_lists_133 rfl (lv_at hl 7 rfl) ?_
                                  refine kM (va_runV (As := [.ref (ad 34), .ref (ad 8)]) (rest := []) ⟨hx, hb, hml, hown, hts⟩ (m_tries_2N l G ad ty hv σ (up (up (up ς 0 ge) 1 gf) 2 (sc (nc))) (setk κc 2 (s1) (r1) (y57_0) (t1)) cs hW hWT hlgT ⟨hs1a, by show s1 ≤ 7; omega, hr1a, by show r1 ≤ 1; omega, hb0, hb4, ht1a, by show t1 ≤ 4; omega⟩ ⟨hnc, by show nc < 400; omega⟩ H.size) (cwV 2 hts (lw_V q553 q555 qs21 q76 q556) rfl rfl rfl (by decide +kernel) ⟨Nat.le_of_ble_eq_true rfl, Nat.le_of_ble_eq_true rfl⟩) (pvM (r := (RX1, TX1, 21)) hK hP hD hX 0 (aD_0 _ _ _ _ _ _ _) rfl) rfl rfl hl.1 rfl (lv_room (Nat.le_of_ble_eq_true rfl)) dX1_lists_134 ⟨Nat.le_of_ble_eq_true rfl, Nat.le_of_ble_eq_true rfl⟩) hD hS hA (fun v ws1 H locs hv hP hD hS => ?_)
                                  obtain ⟨gg, gh, nd, rfl, rfl, hadd⟩ := hv
                                  change (mnOk σ (σ 6) (σ 7) 2 s1 r1 y57_0 t1 ∧ gg = ug ge nc (20000 + 1000 * s1 + 100 * r1 + 10 * y57_0 + t1) ∧ gh = ug gf nc (mnV σ 2 s1 y57_0 t1) ∧ nd = nc + 1) ∨ (¬ mnOk σ (σ 6) (σ 7) 2 s1 r1 y57_0 t1 ∧ gg = ge ∧ gh = gf ∧ nd = nc) at hadd
                                  have hLd : LI (lgl σ (σ 6) (σ 7)) (mvV σ) gg gh nd ((20000 + 1000 * s1 + 100 * r1) + 10 * y57_0 + (t1 + 1)) := LI_mv hadd hLe (by omega) (by omega) (by omega) (by omega) (by omega) (by omega) (by omega) (by omega) (by omega) (by omega)
                                  have hnd : nc ≤ nd ∧ nd ≤ nc + 1 := by
                                    rcases hadd with ⟨q1, -, -, q2⟩ | ⟨-, -, -, q2⟩
                                    · omega
                                    · omega
                                  have hP : va_P G gcl (wD ad ty hv σ (up (up (up ς 0 gg) 1 gh) 2 (sc (nd))) (setk κc 2 (s1) (r1) (y57_0) (t1)) ++ cs) H := hP
                                  have hD : va_D A (wD ad ty hv σ (up (up (up ς 0 gg) 1 gh) 2 (sc (nd))) (setk κc 2 (s1) (r1) (y57_0) (t1)) ++ cs) := hD
                                  refine li_iinc (a := t1) (lv' := [(7, .int (ii (t1 + 1))), (6, .int (ii y57_0)), (5, .int (ii r1)), (4, .int (ii zl)), (3, .int (ii s1)), (2, .int (ii 2)), (0, .ref (ad 0)), (1, .ref (ad 8))]) hx hb dX1_lists_137 hl (k := 0) rfl (by decide) rfl (fun ls hl => ?_)
                                  refine lv_goto (tgt := 94) hx hb dX1_lists_140 (by decide) ?_
                                  exact ih (t1 + 1) (setk κc 2 (s1) (r1) (y57_0) (t1)) gg gh nd (by omega) (by omega) (by omega) (by omega) (.inl ⟨hb0, hb4, hLd⟩) (by omega) H locs hP hD hS ls (lv_sub hl [0, 1, 2, 3, 4, 5, 6, 7] rfl)
                            · refine li_if_eq (tgt := 143) hx hb ⟨by decide, by decide⟩ dX1_lists_101 (by decide) (fun c101 => ?_) (fun c101 => ?_)
                              · exact X94 t1 κc ge gf nc (by omega) (by omega) (by rcases hLc with ⟨q1, q2, q3⟩ | ⟨q1, q2, q3⟩; exact LI_skip q3 (by omega) (by omega) (fun x a c h => by have h1 := hfrom x h (by omega) (by omega); have h2 := lgl_to h; omega); exact LI_skip q3 (by omega) (by omega) (fun x a c h => by have h1 := hfrom x h (by omega) (by omega); have := lgl_fr h; omega)) H locs hP hD hS ls (lv_sub hl [2, 3, 4, 5, 6, 7] rfl)
                              · exact absurd c101 (by decide)
                        exact L94 _ 0 κb gc gd nb (by omega) (by omega) (by omega) (by omega) (by rcases Classical.em (0 ≤ y57_0 ∧ y57_0 ≤ 4) with e | e; exact .inl ⟨e.1, e.2, LI_skip hLb (by omega) (by omega) (fun x a c h => by have := hfrom x h (by omega) (by omega); omega)⟩; exact .inr ⟨e, rfl, hLb⟩) (Nat.lt_succ_self _) H locs hP hD hS ls (lv_sub hl [0, 1, 2, 3, 4, 5, 6, 7] rfl)
                      refine li_if_ne (tgt := 87) hx hb ⟨by omega, by omega⟩ dX1_lists_57 (by decide) (fun c57 => ?_) (fun c57 => ?_)
                      · refine lv_iload hx hb dX1_lists_87 (lv_at hl 1 rfl) ?_
                        exact J57 _ (⟨by unfold beg; omega, by omega, by omega⟩) H locs hP hD hS ls (lv_sub hl [0, 1, 2, 3, 4, 5] rfl)
                      · refine lv_iload hx hb dX1_lists_60 (lv_at hl 0 rfl) ?_
                        refine lv_aload_n hx hb dX1_lists_62 rfl (lv_at hl 4 rfl) ?_
                        refine va_get (D := G) (ci := 0) (v := .ref (ad 1)) (C := RX1) (T := TX1) (N := 21) hx hb hts in_X1 hown hK hP 0 (aD_0 _ _ _ _ _ _ _) rfl 0 (by decide) (hts _ q977) (fun _ h9 => h9) rfl dX1_lists_63 ?_
                        refine va_get (D := G) (ci := 1) (v := .int (ii (σ 10 0))) (C := RX2) (T := TX2) (N := 13) hx hb hts in_X2 hown hK hP 1 (aD_1 _ _ _ _ _ _ _) rfl 8 (by decide) (hts _ q801) (fun _ h9 => h9) rfl dX1_lists_66 ?_
                        refine li_icmp_ge (tgt := 82) hx hb ⟨by omega, by omega⟩ (rgi h10a h10b) dX1_lists_69 (by decide) (fun c69 => ?_) (fun c69 => ?_)
                        · refine li_bipush hx hb dX1_lists_82 (by decide) ?_
                          refine lv_goto (tgt := 89) hx hb dX1_lists_84 (by decide) ?_
                          exact J57 _ (⟨by unfold beg; omega, by omega, by omega⟩) H locs hP hD hS ls (lv_sub hl [0, 1, 2, 3, 4, 5] rfl)
                        · refine lv_aload_n hx hb dX1_lists_72 rfl (lv_at hl 5 rfl) ?_
                          refine va_get (D := G) (ci := 2) (v := .ref (ad 10)) (C := RX3) (T := TX3) (N := 2) hx hb hts in_X3 hown hK hP 8 (aD_8 _ _ _ _ _ _ _) rfl 1 (by decide) (hts _ q664) (fun _ h9 => h9) rfl dX1_lists_73 ?_
                          refine lv_iload hx hb dX1_lists_76 (lv_at hl 0 rfl) ?_
                          refine li_iald (g := (σ 7)) hx hb hK hP 10 0 (aD_10 _ _ _ _ _ _ _) rfl (by omega) (by omega) (by decide) dX1_lists_78 ?_
                          have r79 := hs1 r1
                          refine lv_goto (tgt := 89) hx hb dX1_lists_79 (by decide) ?_
                          exact J57 _ (⟨by unfold beg; omega, by omega, by omega⟩) H locs hP hD hS ls (lv_sub hl [0, 1, 2, 3, 4, 5] rfl)
              exact L39 _ 0 κa ga gb na (by omega) (by omega) (by omega) (by omega) (by rw [show (20000 + 1000 * s1 + 100 * (0 : Int)) = 20000 + 1000 * s1 by omega]; exact hLa) (Nat.lt_succ_self _) H locs hP hD hS ls (lv_sub hl [0, 1, 2, 3, 4, 5] rfl)
        exact L15 _ 0 κa ga gb na (by omega) (by omega) (by omega) (by omega) (by omega) (by first | exact LI_skip (LI_0 _ _ _ _) (by decide) (by decide) (fun x a c => lgl_0 (by omega)) | (rw [show (20000 + 1000 * (0 : Int)) = 20000 by rfl]; exact hLx)) (Nat.lt_succ_self _) H locs hP hD hS ls (lv_sub hl [0, 1, 2, 3] rfl)
    have L15 : ∀ (n : Nat) (s1 : Int) (κa : mem) (ga : Int → Int) (gb : Int → Int) (na : Int) (_ : 0 ≤ s1) (_ : s1 ≤ p2 (σ 9 0)) (_ : s1 ≤ 8) (_ : 0 ≤ na) (_ : na ≤ 0 + 10 * s1) (_ : LI (lgl σ (σ 6) (σ 7)) (mvV σ) ga gb na (10000 + 1000 * s1)) (_ : (8 - s1).toNat < n) (H : Heap) (locs : List Loc) (_ : va_P G gcl (wD ad ty hv σ (up (up (up ς 0 ga) 1 gb) 2 (sc (na))) κa ++ cs) H) (_ : va_D A (wD ad ty hv σ (up (up (up ς 0 ga) 1 gb) 2 (sc (na))) κa ++ cs)) (_ : va_S A s.heap H locs) (ls : Array Slot), lv_has ls 8 [(3, .int (ii s1)), (2, .int (ii 1)), (0, .ref (ad 0)), (1, .ref (ad 8))] → W p l e (rm4 4 0 0 93) s m args below meth c H locs 0 0 Q (F0 m 15 ls []) := by
      intro n
      induction n with
      | zero =>
        intro s1 κa ga gb na hs1a hs1b hs7 hna hBa hLa hm
        exact absurd hm (Nat.not_lt_zero _)
      | succ n ih =>
        intro s1 κa ga gb na hs1a hs1b hs7 hna hBa hLa hm H locs hP hD hS ls hl
        refine lv_iload_n hx hb dX1_lists_15 rfl (lv_at hl 0 rfl) ?_
        refine li_iconst hx hb dX1_lists_16 ?_
        refine lv_aload_n hx hb dX1_lists_17 rfl (lv_at hl 2 rfl) ?_
        refine va_get (D := G) (ci := 0) (v := .ref (ad 1)) (C := RX1) (T := TX1) (N := 21) hx hb hts in_X1 hown hK hP 0 (aD_0 _ _ _ _ _ _ _) rfl 0 (by decide) (hts _ q977) (fun _ h9 => h9) rfl dX1_lists_18 ?_
        refine va_get (D := G) (ci := 1) (v := .int (ii (σ 9 0))) (C := RX2) (T := TX2) (N := 13) hx hb hts in_X2 hown hK hP 1 (aD_1 _ _ _ _ _ _ _) rfl 6 (by decide) (hts _ q790) (fun _ h9 => h9) rfl dX1_lists_21 ?_
        refine lv_ishl hx hb dX1_lists_24 ?_
        refine li_topx (z := p2 (σ 9 0)) (ii_shl1 h9a h9b) ?_
        refine li_icmp_ge (tgt := 155) hx hb ⟨by omega, by omega⟩ ⟨by omega, by omega⟩ dX1_lists_25 (by decide) (fun c25 => ?_) (fun c25 => ?_)
        · exact X15 s1 κa ga gb na (by omega) (by omega) (LI_skip hLa (by omega) (by omega) (fun x a c => lgl_set h9a h9b (by omega) (by omega))) H locs hP hD hS ls (lv_sub hl [1, 2, 3] rfl)
        · refine lv_aload_n hx hb dX1_lists_28 rfl (lv_at hl 2 rfl) ?_
          refine lv_iload_n hx hb dX1_lists_29 rfl (lv_at hl 0 rfl) ?_
          refine lv_aload_n hx hb dX1_lists_30 rfl (lv_at hl 3 rfl) ?_
          refine kR (va_runV (As := [.int (ii s1), .ref (ad 8)]) (rest := []) ⟨hx, hb, hml, hown, hts⟩ (m_ledgeOfN l G ad ty hv σ (up (up (up ς 0 ga) 1 gb) 2 (sc (na))) κa cs s1 hW hWT ⟨by omega, by omega⟩) (cwV 2 hts (lw_V q549 q551 qs20 q76 q552) rfl rfl rfl (by decide +kernel) ⟨Nat.le_of_ble_eq_true rfl, Nat.le_of_ble_eq_true rfl⟩) (pvR (r := (RX1, TX1, 21)) hK hP hD hX 0 (aD_0 _ _ _ _ _ _ _) rfl) rfl rfl hl.1 rfl (lv_room (Nat.le_of_ble_eq_true rfl)) dX1_lists_31 ⟨Nat.le_of_ble_eq_true rfl, Nat.le_of_ble_eq_true rfl⟩) (fun v hv => ?_)
          obtain ⟨zl, rfl, hzl, hzl2⟩ := hv
          replace hzl : -4 ≤ zl ∧ zl ≤ 4 := by omega
          refine lv_istore (lv' := [(4, .int (ii zl)), (3, .int (ii s1)), (2, .int (ii 1)), (0, .ref (ad 0)), (1, .ref (ad 8))]) hx hb dX1_lists_34 hl (by decide) rfl (fun ls hl => ?_)
          refine li_iconst hx hb dX1_lists_36 ?_
          refine lv_istore (lv' := [(5, .int (ii 0)), (4, .int (ii zl)), (3, .int (ii s1)), (2, .int (ii 1)), (0, .ref (ad 0)), (1, .ref (ad 8))]) hx hb dX1_lists_37 hl (by decide) rfl (fun ls hl => ?_)
          have X39 : ∀ (r1 : Int) (κb : mem) (gc : Int → Int) (gd : Int → Int) (nb : Int) (_ : 0 ≤ nb) (_ : nb ≤ 0 + 10 * (s1 + 1)) (_ : LI (lgl σ (σ 6) (σ 7)) (mvV σ) gc gd nb (10000 + 1000 * s1 + 1000)) (H : Heap) (locs : List Loc) (_ : va_P G gcl (wD ad ty hv σ (up (up (up ς 0 gc) 1 gd) 2 (sc (nb))) κb ++ cs) H) (_ : va_D A (wD ad ty hv σ (up (up (up ς 0 gc) 1 gd) 2 (sc (nb))) κb ++ cs)) (_ : va_S A s.heap H locs) (ls : Array Slot), lv_has ls 8 [(3, .int (ii s1)), (2, .int (ii 1)), (0, .ref (ad 0)), (1, .ref (ad 8))] → W p l e (rm4 4 0 0 93) s m args below meth c H locs 0 0 Q (F0 m 149 ls []) := by
            intro r1 κb gc gd nb hnb hBb hLy H locs hP hD hS ls hl
            refine li_iinc (a := s1) (lv' := [(3, .int (ii (s1 + 1))), (2, .int (ii 1)), (0, .ref (ad 0)), (1, .ref (ad 8))]) hx hb dX1_lists_149 hl (k := 0) rfl (by decide) rfl (fun ls hl => ?_)
            refine lv_goto (tgt := 15) hx hb dX1_lists_152 (by decide) ?_
            exact ih (s1 + 1) κb gc gd nb (by omega) (by omega) (by omega) (by omega) (hBb) (by rw [show (10000 + 1000 * (s1 + 1)) = 10000 + 1000 * s1 + 1000 by omega]; exact hLy) (by omega) H locs hP hD hS ls (lv_sub hl [0, 1, 2, 3] rfl)
          have L39 : ∀ (n : Nat) (r1 : Int) (κb : mem) (gc : Int → Int) (gd : Int → Int) (nb : Int) (_ : 0 ≤ r1) (_ : r1 ≤ 2) (_ : 0 ≤ nb) (_ : nb ≤ 0 + 10 * s1 + 5 * r1) (_ : LI (lgl σ (σ 6) (σ 7)) (mvV σ) gc gd nb (10000 + 1000 * s1 + 100 * r1)) (_ : (2 - r1).toNat < n) (H : Heap) (locs : List Loc) (_ : va_P G gcl (wD ad ty hv σ (up (up (up ς 0 gc) 1 gd) 2 (sc (nb))) κb ++ cs) H) (_ : va_D A (wD ad ty hv σ (up (up (up ς 0 gc) 1 gd) 2 (sc (nb))) κb ++ cs)) (_ : va_S A s.heap H locs) (ls : Array Slot), lv_has ls 8 [(5, .int (ii r1)), (4, .int (ii zl)), (3, .int (ii s1)), (2, .int (ii 1)), (0, .ref (ad 0)), (1, .ref (ad 8))] → W p l e (rm4 4 0 0 93) s m args below meth c H locs 0 0 Q (F0 m 39 ls []) := by
            intro n
            induction n with
            | zero =>
              intro r1 κb gc gd nb hr1a hr1b hnb hBb hLb hm
              exact absurd hm (Nat.not_lt_zero _)
            | succ n ih =>
              intro r1 κb gc gd nb hr1a hr1b hnb hBb hLb hm H locs hP hD hS ls hl
              refine lv_iload hx hb dX1_lists_39 (lv_at hl 0 rfl) ?_
              refine lv_aload_n hx hb dX1_lists_41 rfl (lv_at hl 4 rfl) ?_
              refine va_get (D := G) (ci := 0) (v := .ref (ad 1)) (C := RX1) (T := TX1) (N := 21) hx hb hts in_X1 hown hK hP 0 (aD_0 _ _ _ _ _ _ _) rfl 0 (by decide) (hts _ q977) (fun _ h9 => h9) rfl dX1_lists_42 ?_
              refine va_get (D := G) (ci := 1) (v := .int (ii (σ 10 0))) (C := RX2) (T := TX2) (N := 13) hx hb hts in_X2 hown hK hP 1 (aD_1 _ _ _ _ _ _ _) rfl 8 (by decide) (hts _ q801) (fun _ h9 => h9) rfl dX1_lists_45 ?_
              refine li_icmp_lt (tgt := 56) hx hb ⟨by omega, by omega⟩ (rgi h10a h10b) dX1_lists_48 (by decide) (fun c48 => ?_) (fun c48 => ?_)
              · refine lv_iload_n hx hb dX1_lists_56 rfl (lv_at hl 2 rfl) ?_
                have J57 : ∀ (y57_0 : Int) (_ : beg σ (σ 7) zl s1 r1 y57_0 ∧ -4 ≤ y57_0 ∧ y57_0 ≤ 5) (H : Heap) (locs : List Loc) (_ : va_P G gcl (wD ad ty hv σ (up (up (up ς 0 gc) 1 gd) 2 (sc (nb))) κb ++ cs) H) (_ : va_D A (wD ad ty hv σ (up (up (up ς 0 gc) 1 gd) 2 (sc (nb))) κb ++ cs)) (_ : va_S A s.heap H locs) (ls : Array Slot), lv_has ls 8 [(5, .int (ii r1)), (4, .int (ii zl)), (3, .int (ii s1)), (2, .int (ii 1)), (0, .ref (ad 0)), (1, .ref (ad 8))] → W p l e (rm4 4 0 0 93) s m args below meth c H locs 0 0 Q (F0 m 89 ls [.int (ii y57_0)]) := by
                  intro y57_0 hj57 H locs hP hD hS ls hl
                  refine lv_istore (lv' := [(6, .int (ii y57_0)), (5, .int (ii r1)), (4, .int (ii zl)), (3, .int (ii s1)), (2, .int (ii 1)), (0, .ref (ad 0)), (1, .ref (ad 8))]) hx hb dX1_lists_89 hl (by decide) rfl (fun ls hl => ?_)
                  have hfrom : ∀ x, lgl σ (σ 6) (σ 7) x → (10000 + 1000 * s1 + 100 * r1) ≤ x → x < (10000 + 1000 * s1 + 100 * r1) + 100 → x / 10 % 10 = y57_0 := fun x h a c => lgl_from h (k := 1) (s := s1) (r := r1) (by omega) (by omega) (by omega) hzl2 hj57.1
                  refine li_iconst hx hb dX1_lists_91 ?_
                  refine lv_istore (lv' := [(7, .int (ii 0)), (6, .int (ii y57_0)), (5, .int (ii r1)), (4, .int (ii zl)), (3, .int (ii s1)), (2, .int (ii 1)), (0, .ref (ad 0)), (1, .ref (ad 8))]) hx hb dX1_lists_92 hl (by decide) rfl (fun ls hl => ?_)
                  have X94 : ∀ (t1 : Int) (κc : mem) (ge : Int → Int) (gf : Int → Int) (nc : Int) (_ : 0 ≤ nc) (_ : nc ≤ 0 + 10 * s1 + 5 * (r1 + 1)) (_ : LI (lgl σ (σ 6) (σ 7)) (mvV σ) ge gf nc ((10000 + 1000 * s1 + 100 * r1) + 100)) (H : Heap) (locs : List Loc) (_ : va_P G gcl (wD ad ty hv σ (up (up (up ς 0 ge) 1 gf) 2 (sc (nc))) κc ++ cs) H) (_ : va_D A (wD ad ty hv σ (up (up (up ς 0 ge) 1 gf) 2 (sc (nc))) κc ++ cs)) (_ : va_S A s.heap H locs) (ls : Array Slot), lv_has ls 8 [(5, .int (ii r1)), (4, .int (ii zl)), (3, .int (ii s1)), (2, .int (ii 1)), (0, .ref (ad 0)), (1, .ref (ad 8))] → W p l e (rm4 4 0 0 93) s m args below meth c H locs 0 0 Q (F0 m 143 ls []) := by
                    intro t1 κc ge gf nc hnc hBc hLz H locs hP hD hS ls hl
                    refine li_iinc (a := r1) (lv' := [(5, .int (ii (r1 + 1))), (4, .int (ii zl)), (3, .int (ii s1)), (2, .int (ii 1)), (0, .ref (ad 0)), (1, .ref (ad 8))]) hx hb dX1_lists_143 hl (k := 0) rfl (by decide) rfl (fun ls hl => ?_)
                    refine lv_goto (tgt := 39) hx hb dX1_lists_146 (by decide) ?_
                    exact ih (r1 + 1) κc ge gf nc (by omega) (by omega) (by omega) (hBc) (by rw [show (10000 + 1000 * s1 + 100 * (r1 + 1)) = 10000 + 1000 * s1 + 100 * r1 + 100 by omega]; exact hLz) (by omega) H locs hP hD hS ls (lv_sub hl [0, 1, 2, 3, 4, 5] rfl)
                  have L94 : ∀ (n : Nat) (t1 : Int) (κc : mem) (ge : Int → Int) (gf : Int → Int) (nc : Int) (_ : 0 ≤ t1) (_ : t1 ≤ σ 8 0) (_ : 0 ≤ nc) (_ : nc ≤ 0 + 10 * s1 + 5 * r1 + t1) (_ : LQ (lgl σ (σ 6) (σ 7)) (mvV σ) ge gf nc ((10000 + 1000 * s1 + 100 * r1) + 10 * y57_0 + t1) (10000 + 1000 * s1 + 100 * r1) t1 y57_0) (_ : (5 - t1).toNat < n) (H : Heap) (locs : List Loc) (_ : va_P G gcl (wD ad ty hv σ (up (up (up ς 0 ge) 1 gf) 2 (sc (nc))) κc ++ cs) H) (_ : va_D A (wD ad ty hv σ (up (up (up ς 0 ge) 1 gf) 2 (sc (nc))) κc ++ cs)) (_ : va_S A s.heap H locs) (ls : Array Slot), lv_has ls 8 [(7, .int (ii t1)), (6, .int (ii y57_0)), (5, .int (ii r1)), (4, .int (ii zl)), (3, .int (ii s1)), (2, .int (ii 1)), (0, .ref (ad 0)), (1, .ref (ad 8))] → W p l e (rm4 4 0 0 93) s m args below meth c H locs 0 0 Q (F0 m 94 ls []) := by
                    intro n
                    induction n with
                    | zero =>
                      intro t1 κc ge gf nc ht1a ht1b hnc hBc hLc hm
                      exact absurd hm (Nat.not_lt_zero _)
                    | succ n ih =>
                      intro t1 κc ge gf nc ht1a ht1b hnc hBc hLc hm H locs hP hD hS ls hl
                      refine lv_iload hx hb dX1_lists_94 (lv_at hl 1 rfl) ?_
                      refine li_iconst hx hb dX1_lists_96 ?_
                      refine li_iconst hx hb dX1_lists_97 ?_
                      refine kR (va_runS (As := [.int (ii y57_0), .int (ii 0), .int (ii 4)]) (rest := []) ⟨hx, hb, hml, hown, hts⟩ (m_isIn l G ty (wD ad ty hv σ (up (up (up ς 0 ge) 1 gf) 2 (sc (nc))) κc ++ cs) y57_0 0 4 ⟨by omega, by omega⟩ ⟨by decide, by decide⟩ ⟨by decide, by decide⟩) (va_cwS 3 hts (lw_S q117 q118 q76 q119) rfl rfl rfl (by decide +kernel) ⟨Nat.le_of_ble_eq_true rfl, Nat.le_of_ble_eq_true rfl⟩) (psR hK hP hD hX) rfl rfl hl.1 rfl (lv_room (Nat.le_of_ble_eq_true rfl)) dX1_lists_98 ⟨Nat.le_of_ble_eq_true rfl, Nat.le_of_ble_eq_true rfl⟩) (fun v hv => ?_)
                      obtain ⟨z98, rfl, ⟨rfl, h98⟩ | ⟨rfl, h98⟩⟩ := hv
                      · refine li_if_eq (tgt := 143) hx hb ⟨by decide, by decide⟩ dX1_lists_101 (by decide) (fun c101 => ?_) (fun c101 => ?_)
                        · exact absurd c101 (by decide)
                        · refine lv_iload hx hb dX1_lists_104 (lv_at hl 0 rfl) ?_
                          refine lv_aload_n hx hb dX1_lists_106 rfl (lv_at hl 6 rfl) ?_
                          refine va_get (D := G) (ci := 0) (v := .ref (ad 1)) (C := RX1) (T := TX1) (N := 21) hx hb hts in_X1 hown hK hP 0 (aD_0 _ _ _ _ _ _ _) rfl 0 (by decide) (hts _ q977) (fun _ h9 => h9) rfl dX1_lists_107 ?_
                          refine va_get (D := G) (ci := 1) (v := .int (ii (σ 8 0))) (C := RX2) (T := TX2) (N := 13) hx hb hts in_X2 hown hK hP 1 (aD_1 _ _ _ _ _ _ _) rfl 4 (by decide) (hts _ q785) (fun _ h9 => h9) rfl dX1_lists_110 ?_
                          refine li_icmp_ge (tgt := 143) hx hb ⟨by omega, by omega⟩ (rgi h8a h8b) dX1_lists_113 (by decide) (fun c113 => ?_) (fun c113 => ?_)
                          · exact X94 t1 κc ge gf nc (by omega) (by omega) (by rcases hLc with ⟨q1, q2, q3⟩ | ⟨q1, q2, q3⟩; exact LI_skip q3 (by omega) (by omega) (fun x a c h => by have h1 := hfrom x h (by omega) (by omega); have h2 := lgl_to h; omega); exact LI_skip q3 (by omega) (by omega) (fun x a c h => by have h1 := hfrom x h (by omega) (by omega); have := lgl_fr h; omega)) H locs hP hD hS ls (lv_sub hl [2, 3, 4, 5, 6, 7] rfl)
                          · have hb0 : 0 ≤ y57_0 := h98.1
                            have hb4 : y57_0 ≤ 4 := h98.2
                            have hLe := LI_in hLc ⟨hb0, hb4⟩
                            refine lv_aload_n hx hb dX1_lists_116 rfl (lv_at hl 6 rfl) ?_
                            refine lv_aload_n hx hb dX1_lists_117 rfl (lv_at hl 6 rfl) ?_
                            refine va_get (D := G) (ci := 0) (v := .ref (ad 31)) (C := RX1) (T := TX1) (N := 21) hx hb hts in_X1 hown hK hP 0 (aD_0 _ _ _ _ _ _ _) rfl 4 (by decide) (hts _ q981) (fun _ h9 => h9) rfl dX1_lists_118 ?_
                            refine lv_iload_n hx hb dX1_lists_121 rfl (lv_at hl 5 rfl) ?_
                            refine li_aald (q := ad 33) hx hb hK hP 31 5 (aD_31 _ _ _ _ _ _ _) rfl (by decide) (by decide) (by decide) (rfl) dX1_lists_122 ?_
                            refine lv_iload_n hx hb dX1_lists_123 rfl (lv_at hl 4 rfl) ?_
                            refine lv_iload hx hb dX1_lists_124 (lv_at hl 2 rfl) ?_
                            refine lv_iload hx hb dX1_lists_126 (lv_at hl 1 rfl) ?_
                            refine lv_iload hx hb dX1_lists_128 (lv_at hl 0 rfl) ?_
                            refine v_tells (mi := 33) (md := ad 33) (a1 := s1) (a2 := r1) (a3 := y57_0) (a4 := t1) hx hb hml hown hts hK hP hD hX 1 (by decide) hS hA (aDk ad ty hv σ _ κc cs (by decide)) (Nat.le_of_ble_eq_true rfl) (Nat.le_of_ble_eq_true rfl) hl.1 (Nat.le_of_ble_eq_true rfl) ⟨Nat.le_of_ble_eq_true rfl, Nat.le_of_ble_eq_true rfl⟩ dX1_lists_130 (fun H locs hP hD hS => ?_)
                            rw [aDk_set ad ty hv σ _ κc cs (show 1 < 7 by decide)] at hP hD
                            refine lv_aload_n hx hb dX1_lists_133 rfl (lv_at hl 7 rfl) ?_
                            refine kM (va_runV (As := [.ref (ad 33), .ref (ad 8)]) (rest := []) ⟨hx, hb, hml, hown, hts⟩ (m_tries_1N l G ad ty hv σ (up (up (up ς 0 ge) 1 gf) 2 (sc (nc))) (setk κc 1 (s1) (r1) (y57_0) (t1)) cs hW hWT hlgT ⟨hs1a, by show s1 ≤ 7; omega, hr1a, by show r1 ≤ 1; omega, hb0, hb4, ht1a, by show t1 ≤ 4; omega⟩ ⟨hnc, by show nc < 400; omega⟩ H.size) (cwV 2 hts (lw_V q553 q555 qs21 q76 q556) rfl rfl rfl (by decide +kernel) ⟨Nat.le_of_ble_eq_true rfl, Nat.le_of_ble_eq_true rfl⟩) (pvM (r := (RX1, TX1, 21)) hK hP hD hX 0 (aD_0 _ _ _ _ _ _ _) rfl) rfl rfl hl.1 rfl (lv_room (Nat.le_of_ble_eq_true rfl)) dX1_lists_134 ⟨Nat.le_of_ble_eq_true rfl, Nat.le_of_ble_eq_true rfl⟩) hD hS hA (fun v ws1 H locs hv hP hD hS => ?_)
                            obtain ⟨gg, gh, nd, rfl, rfl, hadd⟩ := hv
                            change (mnOk σ (σ 6) (σ 7) 1 s1 r1 y57_0 t1 ∧ gg = ug ge nc (10000 + 1000 * s1 + 100 * r1 + 10 * y57_0 + t1) ∧ gh = ug gf nc (mnV σ 1 s1 y57_0 t1) ∧ nd = nc + 1) ∨ (¬ mnOk σ (σ 6) (σ 7) 1 s1 r1 y57_0 t1 ∧ gg = ge ∧ gh = gf ∧ nd = nc) at hadd
                            have hLd : LI (lgl σ (σ 6) (σ 7)) (mvV σ) gg gh nd ((10000 + 1000 * s1 + 100 * r1) + 10 * y57_0 + (t1 + 1)) := LI_mv hadd hLe (by omega) (by omega) (by omega) (by omega) (by omega) (by omega) (by omega) (by omega) (by omega) (by omega)
                            have hnd : nc ≤ nd ∧ nd ≤ nc + 1 := by
                              rcases hadd with ⟨q1, -, -, q2⟩ | ⟨-, -, -, q2⟩
                              · omega
                              · omega
                            have hP : va_P G gcl (wD ad ty hv σ (up (up (up ς 0 gg) 1 gh) 2 (sc (nd))) (setk κc 1 (s1) (r1) (y57_0) (t1)) ++ cs) H := hP
                            have hD : va_D A (wD ad ty hv σ (up (up (up ς 0 gg) 1 gh) 2 (sc (nd))) (setk κc 1 (s1) (r1) (y57_0) (t1)) ++ cs) := hD
                            refine li_iinc (a := t1) (lv' := [(7, .int (ii (t1 + 1))), (6, .int (ii y57_0)), (5, .int (ii r1)), (4, .int (ii zl)), (3, .int (ii s1)), (2, .int (ii 1)), (0, .ref (ad 0)), (1, .ref (ad 8))]) hx hb dX1_lists_137 hl (k := 0) rfl (by decide) rfl (fun ls hl => ?_)
                            refine lv_goto (tgt := 94) hx hb dX1_lists_140 (by decide) ?_
                            exact ih (t1 + 1) (setk κc 1 (s1) (r1) (y57_0) (t1)) gg gh nd (by omega) (by omega) (by omega) (by omega) (.inl ⟨hb0, hb4, hLd⟩) (by omega) H locs hP hD hS ls (lv_sub hl [0, 1, 2, 3, 4, 5, 6, 7] rfl)
                      · refine li_if_eq (tgt := 143) hx hb ⟨by decide, by decide⟩ dX1_lists_101 (by decide) (fun c101 => ?_) (fun c101 => ?_)
                        · exact X94 t1 κc ge gf nc (by omega) (by omega) (by rcases hLc with ⟨q1, q2, q3⟩ | ⟨q1, q2, q3⟩; exact LI_skip q3 (by omega) (by omega) (fun x a c h => by have h1 := hfrom x h (by omega) (by omega); have h2 := lgl_to h; omega); exact LI_skip q3 (by omega) (by omega) (fun x a c h => by have h1 := hfrom x h (by omega) (by omega); have := lgl_fr h; omega)) H locs hP hD hS ls (lv_sub hl [2, 3, 4, 5, 6, 7] rfl)
                        · exact absurd c101 (by decide)
                  exact L94 _ 0 κb gc gd nb (by omega) (by omega) (by omega) (by omega) (by rcases Classical.em (0 ≤ y57_0 ∧ y57_0 ≤ 4) with e | e; exact .inl ⟨e.1, e.2, LI_skip hLb (by omega) (by omega) (fun x a c h => by have := hfrom x h (by omega) (by omega); omega)⟩; exact .inr ⟨e, rfl, hLb⟩) (Nat.lt_succ_self _) H locs hP hD hS ls (lv_sub hl [0, 1, 2, 3, 4, 5, 6, 7] rfl)
                refine li_if_ne (tgt := 87) hx hb ⟨by omega, by omega⟩ dX1_lists_57 (by decide) (fun c57 => ?_) (fun c57 => ?_)
                · refine lv_iload hx hb dX1_lists_87 (lv_at hl 1 rfl) ?_
                  exact J57 _ (⟨by unfold beg; omega, by omega, by omega⟩) H locs hP hD hS ls (lv_sub hl [0, 1, 2, 3, 4, 5] rfl)
                · refine lv_iload hx hb dX1_lists_60 (lv_at hl 0 rfl) ?_
                  refine lv_aload_n hx hb dX1_lists_62 rfl (lv_at hl 4 rfl) ?_
                  refine va_get (D := G) (ci := 0) (v := .ref (ad 1)) (C := RX1) (T := TX1) (N := 21) hx hb hts in_X1 hown hK hP 0 (aD_0 _ _ _ _ _ _ _) rfl 0 (by decide) (hts _ q977) (fun _ h9 => h9) rfl dX1_lists_63 ?_
                  refine va_get (D := G) (ci := 1) (v := .int (ii (σ 10 0))) (C := RX2) (T := TX2) (N := 13) hx hb hts in_X2 hown hK hP 1 (aD_1 _ _ _ _ _ _ _) rfl 8 (by decide) (hts _ q801) (fun _ h9 => h9) rfl dX1_lists_66 ?_
                  refine li_icmp_ge (tgt := 82) hx hb ⟨by omega, by omega⟩ (rgi h10a h10b) dX1_lists_69 (by decide) (fun c69 => ?_) (fun c69 => ?_)
                  · refine li_bipush hx hb dX1_lists_82 (by decide) ?_
                    refine lv_goto (tgt := 89) hx hb dX1_lists_84 (by decide) ?_
                    exact J57 _ (⟨by unfold beg; omega, by omega, by omega⟩) H locs hP hD hS ls (lv_sub hl [0, 1, 2, 3, 4, 5] rfl)
                  · refine lv_aload_n hx hb dX1_lists_72 rfl (lv_at hl 5 rfl) ?_
                    refine va_get (D := G) (ci := 2) (v := .ref (ad 10)) (C := RX3) (T := TX3) (N := 2) hx hb hts in_X3 hown hK hP 8 (aD_8 _ _ _ _ _ _ _) rfl 1 (by decide) (hts _ q664) (fun _ h9 => h9) rfl dX1_lists_73 ?_
                    refine lv_iload hx hb dX1_lists_76 (lv_at hl 0 rfl) ?_
                    refine li_iald (g := (σ 7)) hx hb hK hP 10 0 (aD_10 _ _ _ _ _ _ _) rfl (by omega) (by omega) (by decide) dX1_lists_78 ?_
                    have r79 := hs1 r1
                    refine lv_goto (tgt := 89) hx hb dX1_lists_79 (by decide) ?_
                    exact J57 _ (⟨by unfold beg; omega, by omega, by omega⟩) H locs hP hD hS ls (lv_sub hl [0, 1, 2, 3, 4, 5] rfl)
              · refine lv_iload hx hb dX1_lists_51 (lv_at hl 0 rfl) ?_
                refine li_if_ne (tgt := 149) hx hb ⟨by omega, by omega⟩ dX1_lists_53 (by decide) (fun c53 => ?_) (fun c53 => ?_)
                · exact X39 r1 κb gc gd nb (by omega) (by omega) (LI_skip hLb (by omega) (by omega) (fun x a c => lgl_rope_a h10a h10b (by omega) (by omega) (by omega) (by omega) (by omega))) H locs hP hD hS ls (lv_sub hl [2, 3, 4, 5] rfl)
                · refine lv_iload_n hx hb dX1_lists_56 rfl (lv_at hl 2 rfl) ?_
                  have J57 : ∀ (y57_0 : Int) (_ : beg σ (σ 7) zl s1 r1 y57_0 ∧ -4 ≤ y57_0 ∧ y57_0 ≤ 5) (H : Heap) (locs : List Loc) (_ : va_P G gcl (wD ad ty hv σ (up (up (up ς 0 gc) 1 gd) 2 (sc (nb))) κb ++ cs) H) (_ : va_D A (wD ad ty hv σ (up (up (up ς 0 gc) 1 gd) 2 (sc (nb))) κb ++ cs)) (_ : va_S A s.heap H locs) (ls : Array Slot), lv_has ls 8 [(5, .int (ii r1)), (4, .int (ii zl)), (3, .int (ii s1)), (2, .int (ii 1)), (0, .ref (ad 0)), (1, .ref (ad 8))] → W p l e (rm4 4 0 0 93) s m args below meth c H locs 0 0 Q (F0 m 89 ls [.int (ii y57_0)]) := by
                    intro y57_0 hj57 H locs hP hD hS ls hl
                    refine lv_istore (lv' := [(6, .int (ii y57_0)), (5, .int (ii r1)), (4, .int (ii zl)), (3, .int (ii s1)), (2, .int (ii 1)), (0, .ref (ad 0)), (1, .ref (ad 8))]) hx hb dX1_lists_89 hl (by decide) rfl (fun ls hl => ?_)
                    have hfrom : ∀ x, lgl σ (σ 6) (σ 7) x → (10000 + 1000 * s1 + 100 * r1) ≤ x → x < (10000 + 1000 * s1 + 100 * r1) + 100 → x / 10 % 10 = y57_0 := fun x h a c => lgl_from h (k := 1) (s := s1) (r := r1) (by omega) (by omega) (by omega) hzl2 hj57.1
                    refine li_iconst hx hb dX1_lists_91 ?_
                    refine lv_istore (lv' := [(7, .int (ii 0)), (6, .int (ii y57_0)), (5, .int (ii r1)), (4, .int (ii zl)), (3, .int (ii s1)), (2, .int (ii 1)), (0, .ref (ad 0)), (1, .ref (ad 8))]) hx hb dX1_lists_92 hl (by decide) rfl (fun ls hl => ?_)
                    have X94 : ∀ (t1 : Int) (κc : mem) (ge : Int → Int) (gf : Int → Int) (nc : Int) (_ : 0 ≤ nc) (_ : nc ≤ 0 + 10 * s1 + 5 * (r1 + 1)) (_ : LI (lgl σ (σ 6) (σ 7)) (mvV σ) ge gf nc ((10000 + 1000 * s1 + 100 * r1) + 100)) (H : Heap) (locs : List Loc) (_ : va_P G gcl (wD ad ty hv σ (up (up (up ς 0 ge) 1 gf) 2 (sc (nc))) κc ++ cs) H) (_ : va_D A (wD ad ty hv σ (up (up (up ς 0 ge) 1 gf) 2 (sc (nc))) κc ++ cs)) (_ : va_S A s.heap H locs) (ls : Array Slot), lv_has ls 8 [(5, .int (ii r1)), (4, .int (ii zl)), (3, .int (ii s1)), (2, .int (ii 1)), (0, .ref (ad 0)), (1, .ref (ad 8))] → W p l e (rm4 4 0 0 93) s m args below meth c H locs 0 0 Q (F0 m 143 ls []) := by
                      intro t1 κc ge gf nc hnc hBc hLz H locs hP hD hS ls hl
                      refine li_iinc (a := r1) (lv' := [(5, .int (ii (r1 + 1))), (4, .int (ii zl)), (3, .int (ii s1)), (2, .int (ii 1)), (0, .ref (ad 0)), (1, .ref (ad 8))]) hx hb dX1_lists_143 hl (k := 0) rfl (by decide) rfl (fun ls hl => ?_)
                      refine lv_goto (tgt := 39) hx hb dX1_lists_146 (by decide) ?_
                      exact ih (r1 + 1) κc ge gf nc (by omega) (by omega) (by omega) (hBc) (by rw [show (10000 + 1000 * s1 + 100 * (r1 + 1)) = 10000 + 1000 * s1 + 100 * r1 + 100 by omega]; exact hLz) (by omega) H locs hP hD hS ls (lv_sub hl [0, 1, 2, 3, 4, 5] rfl)
                    have L94 : ∀ (n : Nat) (t1 : Int) (κc : mem) (ge : Int → Int) (gf : Int → Int) (nc : Int) (_ : 0 ≤ t1) (_ : t1 ≤ σ 8 0) (_ : 0 ≤ nc) (_ : nc ≤ 0 + 10 * s1 + 5 * r1 + t1) (_ : LQ (lgl σ (σ 6) (σ 7)) (mvV σ) ge gf nc ((10000 + 1000 * s1 + 100 * r1) + 10 * y57_0 + t1) (10000 + 1000 * s1 + 100 * r1) t1 y57_0) (_ : (5 - t1).toNat < n) (H : Heap) (locs : List Loc) (_ : va_P G gcl (wD ad ty hv σ (up (up (up ς 0 ge) 1 gf) 2 (sc (nc))) κc ++ cs) H) (_ : va_D A (wD ad ty hv σ (up (up (up ς 0 ge) 1 gf) 2 (sc (nc))) κc ++ cs)) (_ : va_S A s.heap H locs) (ls : Array Slot), lv_has ls 8 [(7, .int (ii t1)), (6, .int (ii y57_0)), (5, .int (ii r1)), (4, .int (ii zl)), (3, .int (ii s1)), (2, .int (ii 1)), (0, .ref (ad 0)), (1, .ref (ad 8))] → W p l e (rm4 4 0 0 93) s m args below meth c H locs 0 0 Q (F0 m 94 ls []) := by
                      intro n
                      induction n with
                      | zero =>
                        intro t1 κc ge gf nc ht1a ht1b hnc hBc hLc hm
                        exact absurd hm (Nat.not_lt_zero _)
                      | succ n ih =>
                        intro t1 κc ge gf nc ht1a ht1b hnc hBc hLc hm H locs hP hD hS ls hl
                        refine lv_iload hx hb dX1_lists_94 (lv_at hl 1 rfl) ?_
                        refine li_iconst hx hb dX1_lists_96 ?_
                        refine li_iconst hx hb dX1_lists_97 ?_
                        refine kR (va_runS (As := [.int (ii y57_0), .int (ii 0), .int (ii 4)]) (rest := []) ⟨hx, hb, hml, hown, hts⟩ (m_isIn l G ty (wD ad ty hv σ (up (up (up ς 0 ge) 1 gf) 2 (sc (nc))) κc ++ cs) y57_0 0 4 ⟨by omega, by omega⟩ ⟨by decide, by decide⟩ ⟨by decide, by decide⟩) (va_cwS 3 hts (lw_S q117 q118 q76 q119) rfl rfl rfl (by decide +kernel) ⟨Nat.le_of_ble_eq_true rfl, Nat.le_of_ble_eq_true rfl⟩) (psR hK hP hD hX) rfl rfl hl.1 rfl (lv_room (Nat.le_of_ble_eq_true rfl)) dX1_lists_98 ⟨Nat.le_of_ble_eq_true rfl, Nat.le_of_ble_eq_true rfl⟩) (fun v hv => ?_)
                        obtain ⟨z98, rfl, ⟨rfl, h98⟩ | ⟨rfl, h98⟩⟩ := hv
                        · refine li_if_eq (tgt := 143) hx hb ⟨by decide, by decide⟩ dX1_lists_101 (by decide) (fun c101 => ?_) (fun c101 => ?_)
                          · exact absurd c101 (by decide)
                          · refine lv_iload hx hb dX1_lists_104 (lv_at hl 0 rfl) ?_
                            refine lv_aload_n hx hb dX1_lists_106 rfl (lv_at hl 6 rfl) ?_
                            refine va_get (D := G) (ci := 0) (v := .ref (ad 1)) (C := RX1) (T := TX1) (N := 21) hx hb hts in_X1 hown hK hP 0 (aD_0 _ _ _ _ _ _ _) rfl 0 (by decide) (hts _ q977) (fun _ h9 => h9) rfl dX1_lists_107 ?_
                            refine va_get (D := G) (ci := 1) (v := .int (ii (σ 8 0))) (C := RX2) (T := TX2) (N := 13) hx hb hts in_X2 hown hK hP 1 (aD_1 _ _ _ _ _ _ _) rfl 4 (by decide) (hts _ q785) (fun _ h9 => h9) rfl dX1_lists_110 ?_
                            refine li_icmp_ge (tgt := 143) hx hb ⟨by omega, by omega⟩ (rgi h8a h8b) dX1_lists_113 (by decide) (fun c113 => ?_) (fun c113 => ?_)
                            · exact X94 t1 κc ge gf nc (by omega) (by omega) (by rcases hLc with ⟨q1, q2, q3⟩ | ⟨q1, q2, q3⟩; exact LI_skip q3 (by omega) (by omega) (fun x a c h => by have h1 := hfrom x h (by omega) (by omega); have h2 := lgl_to h; omega); exact LI_skip q3 (by omega) (by omega) (fun x a c h => by have h1 := hfrom x h (by omega) (by omega); have := lgl_fr h; omega)) H locs hP hD hS ls (lv_sub hl [2, 3, 4, 5, 6, 7] rfl)
                            · have hb0 : 0 ≤ y57_0 := h98.1
                              have hb4 : y57_0 ≤ 4 := h98.2
                              have hLe := LI_in hLc ⟨hb0, hb4⟩
                              refine lv_aload_n hx hb dX1_lists_116 rfl (lv_at hl 6 rfl) ?_
                              refine lv_aload_n hx hb dX1_lists_117 rfl (lv_at hl 6 rfl) ?_
                              refine va_get (D := G) (ci := 0) (v := .ref (ad 31)) (C := RX1) (T := TX1) (N := 21) hx hb hts in_X1 hown hK hP 0 (aD_0 _ _ _ _ _ _ _) rfl 4 (by decide) (hts _ q981) (fun _ h9 => h9) rfl dX1_lists_118 ?_
                              refine lv_iload_n hx hb dX1_lists_121 rfl (lv_at hl 5 rfl) ?_
                              refine li_aald (q := ad 33) hx hb hK hP 31 5 (aD_31 _ _ _ _ _ _ _) rfl (by decide) (by decide) (by decide) (rfl) dX1_lists_122 ?_
                              refine lv_iload_n hx hb dX1_lists_123 rfl (lv_at hl 4 rfl) ?_
                              refine lv_iload hx hb dX1_lists_124 (lv_at hl 2 rfl) ?_
                              refine lv_iload hx hb dX1_lists_126 (lv_at hl 1 rfl) ?_
                              refine lv_iload hx hb dX1_lists_128 (lv_at hl 0 rfl) ?_
                              refine v_tells (mi := 33) (md := ad 33) (a1 := s1) (a2 := r1) (a3 := y57_0) (a4 := t1) hx hb hml hown hts hK hP hD hX 1 (by decide) hS hA (aDk ad ty hv σ _ κc cs (by decide)) (Nat.le_of_ble_eq_true rfl) (Nat.le_of_ble_eq_true rfl) hl.1 (Nat.le_of_ble_eq_true rfl) ⟨Nat.le_of_ble_eq_true rfl, Nat.le_of_ble_eq_true rfl⟩ dX1_lists_130 (fun H locs hP hD hS => ?_)
                              rw [aDk_set ad ty hv σ _ κc cs (show 1 < 7 by decide)] at hP hD
                              refine lv_aload_n hx hb dX1_lists_133 rfl (lv_at hl 7 rfl) ?_
                              refine kM (va_runV (As := [.ref (ad 33), .ref (ad 8)]) (rest := []) ⟨hx, hb, hml, hown, hts⟩ (m_tries_1N l G ad ty hv σ (up (up (up ς 0 ge) 1 gf) 2 (sc (nc))) (setk κc 1 (s1) (r1) (y57_0) (t1)) cs hW hWT hlgT ⟨hs1a, by show s1 ≤ 7; omega, hr1a, by show r1 ≤ 1; omega, hb0, hb4, ht1a, by show t1 ≤ 4; omega⟩ ⟨hnc, by show nc < 400; omega⟩ H.size) (cwV 2 hts (lw_V q553 q555 qs21 q76 q556) rfl rfl rfl (by decide +kernel) ⟨Nat.le_of_ble_eq_true rfl, Nat.le_of_ble_eq_true rfl⟩) (pvM (r := (RX1, TX1, 21)) hK hP hD hX 0 (aD_0 _ _ _ _ _ _ _) rfl) rfl rfl hl.1 rfl (lv_room (Nat.le_of_ble_eq_true rfl)) dX1_lists_134 ⟨Nat.le_of_ble_eq_true rfl, Nat.le_of_ble_eq_true rfl⟩) hD hS hA (fun v ws1 H locs hv hP hD hS => ?_)
                              obtain ⟨gg, gh, nd, rfl, rfl, hadd⟩ := hv
                              change (mnOk σ (σ 6) (σ 7) 1 s1 r1 y57_0 t1 ∧ gg = ug ge nc (10000 + 1000 * s1 + 100 * r1 + 10 * y57_0 + t1) ∧ gh = ug gf nc (mnV σ 1 s1 y57_0 t1) ∧ nd = nc + 1) ∨ (¬ mnOk σ (σ 6) (σ 7) 1 s1 r1 y57_0 t1 ∧ gg = ge ∧ gh = gf ∧ nd = nc) at hadd
                              have hLd : LI (lgl σ (σ 6) (σ 7)) (mvV σ) gg gh nd ((10000 + 1000 * s1 + 100 * r1) + 10 * y57_0 + (t1 + 1)) := LI_mv hadd hLe (by omega) (by omega) (by omega) (by omega) (by omega) (by omega) (by omega) (by omega) (by omega) (by omega)
                              have hnd : nc ≤ nd ∧ nd ≤ nc + 1 := by
                                rcases hadd with ⟨q1, -, -, q2⟩ | ⟨-, -, -, q2⟩
                                · omega
                                · omega
                              have hP : va_P G gcl (wD ad ty hv σ (up (up (up ς 0 gg) 1 gh) 2 (sc (nd))) (setk κc 1 (s1) (r1) (y57_0) (t1)) ++ cs) H := hP
                              have hD : va_D A (wD ad ty hv σ (up (up (up ς 0 gg) 1 gh) 2 (sc (nd))) (setk κc 1 (s1) (r1) (y57_0) (t1)) ++ cs) := hD
                              refine li_iinc (a := t1) (lv' := [(7, .int (ii (t1 + 1))), (6, .int (ii y57_0)), (5, .int (ii r1)), (4, .int (ii zl)), (3, .int (ii s1)), (2, .int (ii 1)), (0, .ref (ad 0)), (1, .ref (ad 8))]) hx hb dX1_lists_137 hl (k := 0) rfl (by decide) rfl (fun ls hl => ?_)
                              refine lv_goto (tgt := 94) hx hb dX1_lists_140 (by decide) ?_
                              exact ih (t1 + 1) (setk κc 1 (s1) (r1) (y57_0) (t1)) gg gh nd (by omega) (by omega) (by omega) (by omega) (.inl ⟨hb0, hb4, hLd⟩) (by omega) H locs hP hD hS ls (lv_sub hl [0, 1, 2, 3, 4, 5, 6, 7] rfl)
                        · refine li_if_eq (tgt := 143) hx hb ⟨by decide, by decide⟩ dX1_lists_101 (by decide) (fun c101 => ?_) (fun c101 => ?_)
                          · exact X94 t1 κc ge gf nc (by omega) (by omega) (by rcases hLc with ⟨q1, q2, q3⟩ | ⟨q1, q2, q3⟩; exact LI_skip q3 (by omega) (by omega) (fun x a c h => by have h1 := hfrom x h (by omega) (by omega); have h2 := lgl_to h; omega); exact LI_skip q3 (by omega) (by omega) (fun x a c h => by have h1 := hfrom x h (by omega) (by omega); have := lgl_fr h; omega)) H locs hP hD hS ls (lv_sub hl [2, 3, 4, 5, 6, 7] rfl)
                          · exact absurd c101 (by decide)
                    exact L94 _ 0 κb gc gd nb (by omega) (by omega) (by omega) (by omega) (by rcases Classical.em (0 ≤ y57_0 ∧ y57_0 ≤ 4) with e | e; exact .inl ⟨e.1, e.2, LI_skip hLb (by omega) (by omega) (fun x a c h => by have := hfrom x h (by omega) (by omega); omega)⟩; exact .inr ⟨e, rfl, hLb⟩) (Nat.lt_succ_self _) H locs hP hD hS ls (lv_sub hl [0, 1, 2, 3, 4, 5, 6, 7] rfl)
                  refine li_if_ne (tgt := 87) hx hb ⟨by omega, by omega⟩ dX1_lists_57 (by decide) (fun c57 => ?_) (fun c57 => ?_)
                  · refine lv_iload hx hb dX1_lists_87 (lv_at hl 1 rfl) ?_
                    exact J57 _ (⟨by unfold beg; omega, by omega, by omega⟩) H locs hP hD hS ls (lv_sub hl [0, 1, 2, 3, 4, 5] rfl)
                  · refine lv_iload hx hb dX1_lists_60 (lv_at hl 0 rfl) ?_
                    refine lv_aload_n hx hb dX1_lists_62 rfl (lv_at hl 4 rfl) ?_
                    refine va_get (D := G) (ci := 0) (v := .ref (ad 1)) (C := RX1) (T := TX1) (N := 21) hx hb hts in_X1 hown hK hP 0 (aD_0 _ _ _ _ _ _ _) rfl 0 (by decide) (hts _ q977) (fun _ h9 => h9) rfl dX1_lists_63 ?_
                    refine va_get (D := G) (ci := 1) (v := .int (ii (σ 10 0))) (C := RX2) (T := TX2) (N := 13) hx hb hts in_X2 hown hK hP 1 (aD_1 _ _ _ _ _ _ _) rfl 8 (by decide) (hts _ q801) (fun _ h9 => h9) rfl dX1_lists_66 ?_
                    refine li_icmp_ge (tgt := 82) hx hb ⟨by omega, by omega⟩ (rgi h10a h10b) dX1_lists_69 (by decide) (fun c69 => ?_) (fun c69 => ?_)
                    · refine li_bipush hx hb dX1_lists_82 (by decide) ?_
                      refine lv_goto (tgt := 89) hx hb dX1_lists_84 (by decide) ?_
                      exact J57 _ (⟨by unfold beg; omega, by omega, by omega⟩) H locs hP hD hS ls (lv_sub hl [0, 1, 2, 3, 4, 5] rfl)
                    · refine lv_aload_n hx hb dX1_lists_72 rfl (lv_at hl 5 rfl) ?_
                      refine va_get (D := G) (ci := 2) (v := .ref (ad 10)) (C := RX3) (T := TX3) (N := 2) hx hb hts in_X3 hown hK hP 8 (aD_8 _ _ _ _ _ _ _) rfl 1 (by decide) (hts _ q664) (fun _ h9 => h9) rfl dX1_lists_73 ?_
                      refine lv_iload hx hb dX1_lists_76 (lv_at hl 0 rfl) ?_
                      refine li_iald (g := (σ 7)) hx hb hK hP 10 0 (aD_10 _ _ _ _ _ _ _) rfl (by omega) (by omega) (by decide) dX1_lists_78 ?_
                      have r79 := hs1 r1
                      refine lv_goto (tgt := 89) hx hb dX1_lists_79 (by decide) ?_
                      exact J57 _ (⟨by unfold beg; omega, by omega, by omega⟩) H locs hP hD hS ls (lv_sub hl [0, 1, 2, 3, 4, 5] rfl)
          exact L39 _ 0 κa ga gb na (by omega) (by omega) (by omega) (by omega) (by rw [show (10000 + 1000 * s1 + 100 * (0 : Int)) = 10000 + 1000 * s1 by omega]; exact hLa) (Nat.lt_succ_self _) H locs hP hD hS ls (lv_sub hl [0, 1, 2, 3, 4, 5] rfl)
    exact L15 _ 0 κ (ς 0) (ς 1) 0 (by omega) (by omega) (by omega) (by omega) (by omega) (by first | exact LI_skip (LI_0 _ _ _ _) (by decide) (by decide) (fun x a c => lgl_0 (by omega)) | (rw [show (10000 + 1000 * (0 : Int)) = 10000 by rfl]; exact hLx)) (Nat.lt_succ_self _) H locs hP hD hS ls (lv_sub hl [0, 1, 2, 3] rfl)
