/-! DownRope: reaches, finds (written by gen/d4.py) -/
set_option maxRecDepth 100000
set_option maxHeartbeats 4000000 in
theorem m_reaches (l : Launch) (G : va_G) (ad : Nat → Nat) (ty : Nat → ClassId) (hv : Nat → Option Nat) (σ ς κ : mem) (cs : va_W) (c1 : Int) (v1 : Int)  (hc : inSt c1) (hlr : 0 ≤ (ς 6) c1 ∧ (ς 6) c1 ≤ FARc) (hnr : 0 ≤ (ς 8 0) ∧ ((ς 6) c1 = FARc → (ς 8 0) < 4500)) : cM l yX1_reaches (ws_ yX1_reaches cX1_reaches 3 none) (rm4 0 0 0 0) G ty (wD ad ty hv σ ς κ ++ cs) [.ref (ad 0), .int (ii c1), .int (ii v1)] 0 0 (fun r W' => ∃ (g : Int → Int) (n : Int), r = none ∧ W' = wD ad ty hv σ (up (up (up ς 7 g) 8 (sc (n))) 6 (ug (ς 6) c1 v1)) κ ++ cs ∧ (g = if (ς 6) c1 = FARc then ug (ς 7) (ς 8 0) c1 else (ς 7)) ∧ (n = if (ς 6) c1 = FARc then (ς 8 0) + 1 else (ς 8 0))) := by
  refine cM.of (by decide) (Nat.le_of_ble_eq_true rfl) ?_
  intro p e s m args below meth c A Q H locs hQ hx hb hr hml hown hlk hname hts hK hP hD hS hA hX ls hl
  have hl : lv_has ls 3 [(0, .ref (ad 0)), (1, .int (ii c1)), (2, .int (ii v1))] := hl
  obtain ⟨hc0, hc1⟩ := id hc
  have hl0 : 0 ≤ ς 6 c1 := hlr.1
  have hl1 : ς 6 c1 ≤ 1000000000 := hlr.2
  obtain ⟨hn0, hn1⟩ := id hnr
  refine lv_aload_n hx hb dX1_reaches_0 rfl (lv_at hl 0 rfl) ?_
  refine va_get (D := G) (ci := 0) (v := .ref (ad 44)) (C := RX1) (T := TX1) (N := 21) hx hb hts in_X1 hown hK hP 0 (aD_0 _ _ _ _ _ _ _) rfl 10 (by decide) (hts _ q987) (fun _ h9 => h9) rfl dX1_reaches_1 ?_
  refine lv_iload_n hx hb dX1_reaches_4 rfl (lv_at hl 1 rfl) ?_
  refine li_iald (g := (ς 6)) hx hb hK hP 44 0 (aD_44 _ _ _ _ _ _ _) rfl (by omega) (by omega) (by decide) dX1_reaches_5 ?_
  refine lv_ldc (v := ii 1000000000) hx hb hown (hts _ q617) dX1_reaches_6 ?_
  refine li_icmp_ne (tgt := 31) hx hb (rgi hl0 hl1) ⟨by decide, by decide⟩ dX1_reaches_8 (by decide) (fun c8 => ?_) (fun c8 => ?_)
  · refine lv_aload_n hx hb dX1_reaches_31 rfl (lv_at hl 0 rfl) ?_
    refine va_get (D := G) (ci := 0) (v := .ref (ad 44)) (C := RX1) (T := TX1) (N := 21) hx hb hts in_X1 hown hK hP 0 (aD_0 _ _ _ _ _ _ _) rfl 10 (by decide) (hts _ q987) (fun _ h9 => h9) rfl dX1_reaches_32 ?_
    refine lv_iload_n hx hb dX1_reaches_35 rfl (lv_at hl 1 rfl) ?_
    refine lv_iload_n hx hb dX1_reaches_36 rfl (lv_at hl 2 rfl) ?_
    refine li_iast (g := (ς 6)) (W2 := wD ad ty hv σ (up ς 6 (ug (ς 6) c1 v1)) κ ++ cs) hx hb hK hP hD hS 44 0 (aD_44 _ _ _ _ _ _ _) rfl (by omega) (by omega) (by decide) rfl dX1_reaches_37 (fun H locs hP hD hS => ?_)
    exact eMv hQ hx hb hr hlk hP hD hS (Nat.le_of_ble_eq_true rfl) (Nat.le_of_ble_eq_true rfl) dX1_reaches_38 (⟨(ς 7), ς 8 0, rfl, rfl, (if_neg c8).symm, (if_neg c8).symm⟩)
  · refine lv_aload_n hx hb dX1_reaches_11 rfl (lv_at hl 0 rfl) ?_
    refine va_get (D := G) (ci := 0) (v := .ref (ad 45)) (C := RX1) (T := TX1) (N := 21) hx hb hts in_X1 hown hK hP 0 (aD_0 _ _ _ _ _ _ _) rfl 11 (by decide) (hts _ q988) (fun _ h9 => h9) rfl dX1_reaches_12 ?_
    refine lv_aload_n hx hb dX1_reaches_15 rfl (lv_at hl 0 rfl) ?_
    refine va_get (D := G) (ci := 0) (v := .int (ii (ς 8 0))) (C := RX1) (T := TX1) (N := 21) hx hb hts in_X1 hown hK hP 0 (aD_0 _ _ _ _ _ _ _) rfl 12 (by decide) (hts _ q989) (fun _ h9 => h9) rfl dX1_reaches_16 ?_
    refine lv_iload_n hx hb dX1_reaches_19 rfl (lv_at hl 1 rfl) ?_
    refine li_iast (g := (ς 7)) (W2 := wD ad ty hv σ (up ς 7 (ug (ς 7) (ς 8 0) c1)) κ ++ cs) hx hb hK hP hD hS 45 0 (aD_45 _ _ _ _ _ _ _) rfl (by omega) (hn1 c8) (by decide) rfl dX1_reaches_20 (fun H locs hP hD hS => ?_)
    refine lv_aload_n hx hb dX1_reaches_21 rfl (lv_at hl 0 rfl) ?_
    refine lv_dup hx hb dX1_reaches_22 rfl ?_
    refine va_get (D := G) (ci := 0) (v := .int (ii (ς 8 0))) (C := RX1) (T := TX1) (N := 21) hx hb hts in_X1 hown hK hP 0 (aD_0 _ _ _ _ _ _ _) rfl 12 (by decide) (hts _ q989) (fun _ h9 => h9) rfl dX1_reaches_23 ?_
    refine li_iconst hx hb dX1_reaches_26 ?_
    refine li_add hx hb dX1_reaches_27 ?_
    refine va_put (D := G) (ci := 0) (v := .int (ii (ς 8 0 + 1))) (ty := .int) (C := RX1) (T := TX1) (N := 21) hx hb hts in_X1 tyX1 tyX1_ok nmX1 hown hK hP hD hS 0 (aD_0 _ _ _ _ _ _ _) rfl 12 (by decide) (hts _ q989) (fun _ h9 => h9) rfl (tyX1_ok 12 (by decide)) rfl rfl (Nat.le_of_ble_eq_true rfl) dX1_reaches_28 (fun H locs hP hD hS => ?_)
    have hP : va_P G gcl (wD ad ty hv σ (up (up ς 7 (ug (ς 7) (ς 8 0) c1)) 8 (sc (ς 8 0 + 1))) κ ++ cs) H := hP
    have hD : va_D A (wD ad ty hv σ (up (up ς 7 (ug (ς 7) (ς 8 0) c1)) 8 (sc (ς 8 0 + 1))) κ ++ cs) := hD
    refine lv_aload_n hx hb dX1_reaches_31 rfl (lv_at hl 0 rfl) ?_
    refine va_get (D := G) (ci := 0) (v := .ref (ad 44)) (C := RX1) (T := TX1) (N := 21) hx hb hts in_X1 hown hK hP 0 (aD_0 _ _ _ _ _ _ _) rfl 10 (by decide) (hts _ q987) (fun _ h9 => h9) rfl dX1_reaches_32 ?_
    refine lv_iload_n hx hb dX1_reaches_35 rfl (lv_at hl 1 rfl) ?_
    refine lv_iload_n hx hb dX1_reaches_36 rfl (lv_at hl 2 rfl) ?_
    refine li_iast (g := (ς 6)) (W2 := wD ad ty hv σ (up (up (up ς 7 (ug (ς 7) (ς 8 0) c1)) 8 (sc (ς 8 0 + 1))) 6 (ug (ς 6) c1 v1)) κ ++ cs) hx hb hK hP hD hS 44 0 (aD_44 _ _ _ _ _ _ _) rfl (by omega) (by omega) (by decide) rfl dX1_reaches_37 (fun H locs hP hD hS => ?_)
    exact eMv hQ hx hb hr hlk hP hD hS (Nat.le_of_ble_eq_true rfl) (Nat.le_of_ble_eq_true rfl) dX1_reaches_38 (⟨(ug (ς 7) (ς 8 0) c1), ς 8 0 + 1, rfl, rfl, (if_pos c8).symm, (if_pos c8).symm⟩)
set_option maxHeartbeats 4000000 in
theorem m_finds (l : Launch) (G : va_G) (ad : Nat → Nat) (ty : Nat → ClassId) (hv : Nat → Option Nat) (σ ς κ : mem) (cs : va_W)   (hF : okF σ) (hT : wfS (ς 11) (ς 12)) : cM l yX1_finds (ws_ yX1_finds cX1_finds 7 none) (rm4 5 0 0 120) G ty (wD ad ty hv σ ς κ ++ cs) [.ref (ad 0)] 0 0 (fun r W' => ∃ (ga : Int → Int) (gb : Int → Int) (na : Int) (la : Int → Int) (me : Int → Int) (n8 : Int) (qd : Int → Int) (qu : Int → Int) (wT : Int → Int) (qT : Int → Int) (κ' : mem), r = none ∧ W' = wD ad ty hv σ (up (up (up (up (up (up (up (up (up (up ς 0 ga) 1 gb) 2 (sc (na))) 6 la) 7 me) 8 (sc (n8))) 9 qd) 10 qu) 11 wT) 12 qT) κ' ++ cs ∧ (wfS wT qT) ∧ (Sought (EF σ) (cdv (σ 6) (σ 7)) la me n8)) := by
  refine cM.of (by decide) (Nat.le_of_ble_eq_true rfl) ?_
  intro p e s m args below meth c A Q H locs hQ hx hb hr hml hown hlk hname hts hK hP hD hS hA hX ls hl
  have hl : lv_has ls 7 [(0, .ref (ad 0))] := hl
  obtain ⟨hW, hWS, hlg⟩ := id hF
  obtain ⟨hw0, hw1, hw2, hw3, hw4, hw5, h8a, h8b, h9a, h9b, h10a, h10b⟩ := id hW
  obtain ⟨hs0, hs1⟩ := id hWS
  have hst := (cdv_dig hWS.1 hWS.2).1
  obtain ⟨hst0, hst1⟩ := id hst
  have hokS : okC σ (cdv (σ 6) (σ 7)) := okC_cdv hWS hlg
  have hE := okE_F hW
  refine lv_aload_n hx hb dX1_finds_0 rfl (lv_at hl 0 rfl) ?_
  refine li_iconst hx hb dX1_finds_1 ?_
  refine va_put (D := G) (ci := 0) (v := .int (ii 0)) (ty := .int) (C := RX1) (T := TX1) (N := 21) hx hb hts in_X1 tyX1 tyX1_ok nmX1 hown hK hP hD hS 0 (aD_0 _ _ _ _ _ _ _) rfl 12 (by decide) (hts _ q989) (fun _ h9 => h9) rfl (tyX1_ok 12 (by decide)) rfl rfl (Nat.le_of_ble_eq_true rfl) dX1_finds_2 (fun H locs hP hD hS => ?_)
  have hP : va_P G gcl (wD ad ty hv σ (up ς 8 (sc (0))) κ ++ cs) H := hP
  have hD : va_D A (wD ad ty hv σ (up ς 8 (sc (0))) κ ++ cs) := hD
  refine li_iconst hx hb dX1_finds_5 ?_
  refine lv_istore_n (lv' := [(1, .int (ii 0)), (0, .ref (ad 0))]) hx hb dX1_finds_6 rfl hl (by decide) rfl (fun ls hl => ?_)
  have X7 : ∀ (i1 : Int) (la0 : Int → Int) (qd0 : Int → Int) (_ : ∀ c, inSt c → la0 c = FARc) (_ : ∀ c, inSt c → qd0 c = 0) (H : Heap) (locs : List Loc) (_ : va_P G gcl (wD ad ty hv σ (up (up (up ς 8 (sc (0))) 6 la0) 9 qd0) κ ++ cs) H) (_ : va_D A (wD ad ty hv σ (up (up (up ς 8 (sc (0))) 6 la0) 9 qd0) κ ++ cs)) (_ : va_S A s.heap H locs) (ls : Array Slot), lv_has ls 7 [(0, .ref (ad 0))] → W p l e (rm4 5 0 0 120) s m args below meth c H locs 0 0 Q (F0 m 35 ls []) := by
    intro i1 la0 qd0 hla hqa H locs hP hD hS ls hl
    refine li_iconst hx hb dX1_finds_35 ?_
    refine lv_istore_n (lv' := [(1, .int (ii 0)), (0, .ref (ad 0))]) hx hb dX1_finds_36 rfl hl (by decide) rfl (fun ls hl => ?_)
    refine li_iconst hx hb dX1_finds_37 ?_
    refine lv_istore_n (lv' := [(2, .int (ii 1)), (1, .int (ii 0)), (0, .ref (ad 0))]) hx hb dX1_finds_38 rfl hl (by decide) rfl (fun ls hl => ?_)
    refine lv_aload_n hx hb dX1_finds_39 rfl (lv_at hl 2 rfl) ?_
    refine va_get (D := G) (ci := 0) (v := .ref (ad 47)) (C := RX1) (T := TX1) (N := 21) hx hb hts in_X1 hown hK hP 0 (aD_0 _ _ _ _ _ _ _) rfl 14 (by decide) (hts _ q991) (fun _ h9 => h9) rfl dX1_finds_40 ?_
    refine li_iconst hx hb dX1_finds_43 ?_
    refine lv_aload_n hx hb dX1_finds_44 rfl (lv_at hl 2 rfl) ?_
    refine va_get (D := G) (ci := 0) (v := .ref (ad 1)) (C := RX1) (T := TX1) (N := 21) hx hb hts in_X1 hown hK hP 0 (aD_0 _ _ _ _ _ _ _) rfl 0 (by decide) (hts _ q977) (fun _ h9 => h9) rfl dX1_finds_45 ?_
    refine va_get (D := G) (ci := 1) (v := .ref (ad 8)) (C := RX2) (T := TX2) (N := 13) hx hb hts in_X2 hown hK hP 1 (aD_1 _ _ _ _ _ _ _) rfl 12 (by decide) (hts _ q810) (fun _ h9 => h9) rfl dX1_finds_48 ?_
    refine kR (va_runV (As := []) (rest := [.int (ii 0), .ref (ad 47)]) ⟨hx, hb, hml, hown, hts⟩ (m_code l G ty (wD ad ty hv σ (up (up (up ς 8 (sc (0))) 6 la0) 9 qd0) κ ++ cs) (fun k => 8 + k) (fun k => ad (8 + k)) (σ 6) (σ 7) ⟨rfl, rfl, rfl⟩) (cwV 0 hts (lw_V q618 q619 q620 q78 q621) rfl rfl rfl (by decide +kernel) ⟨Nat.le_of_ble_eq_true rfl, Nat.le_of_ble_eq_true rfl⟩) (pvR (r := (RX3, TX3, 2)) hK hP hD hX 8 (aD_8 _ _ _ _ _ _ _) rfl) rfl rfl hl.1 rfl (lv_room (Nat.le_of_ble_eq_true rfl)) dX1_finds_51 ⟨Nat.le_of_ble_eq_true rfl, Nat.le_of_ble_eq_true rfl⟩) (fun v hv => ?_)
    obtain ⟨z51, rfl, rfl⟩ := hv
    refine li_iast (g := (ς 10)) (W2 := wD ad ty hv σ (up (up (up (up ς 8 (sc (0))) 6 la0) 9 qd0) 10 (ug (ς 10) 0 (cdv (σ 6) (σ 7)))) κ ++ cs) hx hb hK hP hD hS 47 0 (aD_47 _ _ _ _ _ _ _) rfl (by decide) (by decide) (by decide) rfl dX1_finds_54 (fun H locs hP hD hS => ?_)
    refine lv_aload_n hx hb dX1_finds_55 rfl (lv_at hl 2 rfl) ?_
    refine lv_aload_n hx hb dX1_finds_56 rfl (lv_at hl 2 rfl) ?_
    refine va_get (D := G) (ci := 0) (v := .ref (ad 47)) (C := RX1) (T := TX1) (N := 21) hx hb hts in_X1 hown hK hP 0 (aD_0 _ _ _ _ _ _ _) rfl 14 (by decide) (hts _ q991) (fun _ h9 => h9) rfl dX1_finds_57 ?_
    refine li_iconst hx hb dX1_finds_60 ?_
    refine li_iald (g := (ug (ς 10) 0 (cdv (σ 6) (σ 7)))) hx hb hK hP 47 0 (aD_47 _ _ _ _ _ _ _) rfl (by decide) (by decide) (by decide) dX1_finds_61 ?_
    refine li_iconst hx hb dX1_finds_62 ?_
    refine kM (va_runV (As := [.int (ii (cdv (σ 6) (σ 7))), .int (ii 0)]) (rest := []) ⟨hx, hb, hml, hown, hts⟩ ((m_reaches l G ad ty hv σ (up (up (up (up ς 8 (sc (0))) 6 la0) 9 qd0) 10 (ug (ς 10) 0 (cdv (σ 6) (σ 7)))) κ cs (cdv (σ 6) (σ 7)) 0 (show inSt (cdv (σ 6) (σ 7)) from hst) (show 0 ≤ la0 (cdv (σ 6) (σ 7)) ∧ la0 (cdv (σ 6) (σ 7)) ≤ FARc from ⟨by rw [hla _ hst]; decide, by rw [hla _ hst]; decide⟩) (show 0 ≤ 0 ∧ (la0 (cdv (σ 6) (σ 7)) = FARc → 0 < 4500) from ⟨Int.le_refl 0, fun _ => by decide⟩)) H.size) (cwV 2 hts (lw_V q622 q624 qs24 q76 q625) rfl rfl rfl (by decide +kernel) ⟨Nat.le_of_ble_eq_true rfl, Nat.le_of_ble_eq_true rfl⟩) (pvM (r := (RX1, TX1, 21)) hK hP hD hX 0 (aD_0 _ _ _ _ _ _ _) rfl) rfl rfl hl.1 rfl (lv_room (Nat.le_of_ble_eq_true rfl)) dX1_finds_63 ⟨Nat.le_of_ble_eq_true rfl, Nat.le_of_ble_eq_true rfl⟩) hD hS hA (fun v ws1 H locs hv hP hD hS => ?_)
    obtain ⟨g63, n63, rfl, rfl, hg63, hn63⟩ := hv
    have hP : va_P G gcl (wD ad ty hv σ (up (up (up (up (up ς 9 qd0) 10 (ug (ς 10) 0 (cdv (σ 6) (σ 7)))) 7 g63) 8 (sc (n63))) 6 (ug la0 (cdv (σ 6) (σ 7)) 0)) κ ++ cs) H := hP
    have hD : va_D A (wD ad ty hv σ (up (up (up (up (up ς 9 qd0) 10 (ug (ς 10) 0 (cdv (σ 6) (σ 7)))) 7 g63) 8 (sc (n63))) 6 (ug la0 (cdv (σ 6) (σ 7)) 0)) κ ++ cs) := hD
    have hg63 : g63 = if la0 (cdv (σ 6) (σ 7)) = FARc then ug (ς 7) 0 (cdv (σ 6) (σ 7)) else (ς 7) := hg63
    have hn63 : n63 = if la0 (cdv (σ 6) (σ 7)) = FARc then 0 + 1 else 0 := hn63
    have L66 : ∀ (n : Nat) (ma : Int) (fi : Int) (κa : mem) (ga : Int → Int) (gb : Int → Int) (na : Int) (la : Int → Int) (me : Int → Int) (n8 : Int) (qd : Int → Int) (qu : Int → Int) (wT : Int → Int) (qT : Int → Int) (_ : wfS wT qT) (_ : SD (EF σ) (cdv (σ 6) (σ 7)) la me n8 qd qu fi ma) (_ : (2 * smN la 4500 + ma).toNat < n) (H : Heap) (locs : List Loc) (_ : va_P G gcl (wD ad ty hv σ (up (up (up (up (up (up (up (up (up (up ς 0 ga) 1 gb) 2 (sc (na))) 6 la) 7 me) 8 (sc (n8))) 9 qd) 10 qu) 11 wT) 12 qT) κa ++ cs) H) (_ : va_D A (wD ad ty hv σ (up (up (up (up (up (up (up (up (up (up ς 0 ga) 1 gb) 2 (sc (na))) 6 la) 7 me) 8 (sc (n8))) 9 qd) 10 qu) 11 wT) 12 qT) κa ++ cs)) (_ : va_S A s.heap H locs) (ls : Array Slot), lv_has ls 7 [(2, .int (ii ma)), (1, .int (ii fi)), (0, .ref (ad 0))] → W p l e (rm4 5 0 0 120) s m args below meth c H locs 0 0 Q (F0 m 66 ls []) := by
      intro n
      induction n with
      | zero =>
        intro ma fi κa ga gb na la me n8 qd qu wT qT hT hSD hm
        exact absurd hm (Nat.not_lt_zero _)
      | succ n ih =>
        intro ma fi κa ga gb na la me n8 qd qu wT qT hT hSD hm H locs hP hD hS ls hl
        obtain ⟨hf0, hf1, hm0, hm1⟩ := SD.b hSD
        have hsm := SD.sm hSD
        refine lv_iload_n hx hb dX1_finds_66 rfl (lv_at hl 0 rfl) ?_
        refine li_if_le (tgt := 226) hx hb ⟨by omega, by omega⟩ dX1_finds_67 (by decide) (fun c67 => ?_) (fun c67 => ?_)
        · exact eMv hQ hx hb hr hlk hP hD hS (Nat.le_of_ble_eq_true rfl) (Nat.le_of_ble_eq_true rfl) dX1_finds_226 (⟨ga, gb, na, la, me, n8, qd, qu, wT, qT, κa, rfl, rfl, hT, SD.done hSD (by omega)⟩)
        · obtain ⟨hSK, hic, hlc⟩ := SD.pop hSD c67
          obtain ⟨hic0, hic1⟩ := id hic
          refine lv_aload_n hx hb dX1_finds_70 rfl (lv_at hl 2 rfl) ?_
          refine va_get (D := G) (ci := 0) (v := .ref (ad 47)) (C := RX1) (T := TX1) (N := 21) hx hb hts in_X1 hown hK hP 0 (aD_0 _ _ _ _ _ _ _) rfl 14 (by decide) (hts _ q991) (fun _ h9 => h9) rfl dX1_finds_71 ?_
          refine lv_iload_n hx hb dX1_finds_74 rfl (lv_at hl 1 rfl) ?_
          refine li_iald (g := qu) hx hb hK hP 47 0 (aD_47 _ _ _ _ _ _ _) rfl (by omega) (by omega) (by decide) dX1_finds_75 ?_
          refine lv_istore_n (lv' := [(3, .int (ii (qu fi))), (2, .int (ii ma)), (1, .int (ii fi)), (0, .ref (ad 0))]) hx hb dX1_finds_76 rfl hl (by decide) rfl (fun ls hl => ?_)
          refine lv_iload_n hx hb dX1_finds_77 rfl (lv_at hl 2 rfl) ?_
          refine li_iconst hx hb dX1_finds_78 ?_
          refine li_add hx hb dX1_finds_79 ?_
          refine li_sipush hx hb dX1_finds_80 (by decide) ?_
          refine li_rem hx hb (by omega) (by omega) (by omega) (by omega) dX1_finds_83 ?_
          refine lv_istore_n (lv' := [(1, .int (ii ((fi + 1) % 4500))), (3, .int (ii (qu fi))), (2, .int (ii ma)), (0, .ref (ad 0))]) hx hb dX1_finds_84 rfl hl (by decide) rfl (fun ls hl => ?_)
          refine li_iinc (a := ma) (lv' := [(2, .int (ii (ma + (-1)))), (1, .int (ii ((fi + 1) % 4500))), (3, .int (ii (qu fi))), (0, .ref (ad 0))]) hx hb dX1_finds_85 hl (k := 2) rfl (by decide) rfl (fun ls hl => ?_)
          refine lv_aload_n hx hb dX1_finds_88 rfl (lv_at hl 3 rfl) ?_
          refine va_get (D := G) (ci := 0) (v := .ref (ad 46)) (C := RX1) (T := TX1) (N := 21) hx hb hts in_X1 hown hK hP 0 (aD_0 _ _ _ _ _ _ _) rfl 13 (by decide) (hts _ q990) (fun _ h9 => h9) rfl dX1_finds_89 ?_
          refine lv_iload_n hx hb dX1_finds_92 rfl (lv_at hl 2 rfl) ?_
          refine li_iconst hx hb dX1_finds_93 ?_
          refine li_zast (g := qd) (W2 := wD ad ty hv σ (up (up (up (up (up (up (up (up (up (up ς 0 ga) 1 gb) 2 (sc (na))) 6 la) 7 me) 8 (sc (n8))) 10 qu) 11 wT) 12 qT) 9 (ug qd (qu fi) 0)) κa ++ cs) hx hb hK hP hD hS 46 1 (aD_46 _ _ _ _ _ _ _) rfl (by omega) (by omega) (by decide) (by omega) rfl dX1_finds_94 (fun H locs hP hD hS => ?_)
          refine lv_aload_n hx hb dX1_finds_95 rfl (lv_at hl 3 rfl) ?_
          refine va_get (D := G) (ci := 0) (v := .ref (ad 48)) (C := RX1) (T := TX1) (N := 21) hx hb hts in_X1 hown hK hP 0 (aD_0 _ _ _ _ _ _ _) rfl 15 (by decide) (hts _ q992) (fun _ h9 => h9) rfl dX1_finds_96 ?_
          refine lv_iload_n hx hb dX1_finds_99 rfl (lv_at hl 2 rfl) ?_
          refine kM (va_runV (As := [.int (ii (qu fi))]) (rest := []) ⟨hx, hb, hml, hown, hts⟩ (m_decodes l G ty (wD ad ty hv σ (up (up (up (up (up (up (up (up (up (up ς 0 ga) 1 gb) 2 (sc (na))) 6 la) 7 me) 8 (sc (n8))) 10 qu) 11 wT) 12 qT) 9 (ug qd (qu fi) 0)) κa ++ cs) (fun k => 48 + k) (fun k => ad (48 + k)) wT qT (qu fi) ⟨rfl, rfl, rfl⟩ hic (by decide) (by decide) (by decide) (by decide) H.size) (cwV 1 hts (lw_V q626 q627 q628 q78 q629) rfl rfl rfl (by decide +kernel) ⟨Nat.le_of_ble_eq_true rfl, Nat.le_of_ble_eq_true rfl⟩) (pvM (r := (RX3, TX3, 2)) hK hP hD hX 48 (aD_48 _ _ _ _ _ _ _) rfl) rfl rfl hl.1 rfl (lv_room (Nat.le_of_ble_eq_true rfl)) dX1_finds_100 ⟨Nat.le_of_ble_eq_true rfl, Nat.le_of_ble_eq_true rfl⟩) hD hS hA (fun v ws1 H locs hv hP hD hS => ?_)
          obtain ⟨rfl, rfl⟩ := hv
          have hP : va_P G gcl (wD ad ty hv σ (up (up (up (up (up (up (up (up (up (up ς 0 ga) 1 gb) 2 (sc (na))) 6 la) 7 me) 8 (sc (n8))) 10 qu) 9 (ug qd (qu fi) 0)) 11 (dcw (qu fi) wT)) 12 (dcq (qu fi) qT)) κa ++ cs) H := hP
          have hD : va_D A (wD ad ty hv σ (up (up (up (up (up (up (up (up (up (up ς 0 ga) 1 gb) 2 (sc (na))) 6 la) 7 me) 8 (sc (n8))) 10 qu) 9 (ug qd (qu fi) 0)) 11 (dcw (qu fi) wT)) 12 (dcq (qu fi) qT)) κa ++ cs) := hD
          refine lv_aload_n hx hb dX1_finds_103 rfl (lv_at hl 3 rfl) ?_
          refine lv_aload_n hx hb dX1_finds_104 rfl (lv_at hl 3 rfl) ?_
          refine va_get (D := G) (ci := 0) (v := .ref (ad 48)) (C := RX1) (T := TX1) (N := 21) hx hb hts in_X1 hown hK hP 0 (aD_0 _ _ _ _ _ _ _) rfl 15 (by decide) (hts _ q992) (fun _ h9 => h9) rfl dX1_finds_105 ?_
          refine kM (va_runV (As := [.ref (ad 48)]) (rest := []) ⟨hx, hb, hml, hown, hts⟩ (m_listsT l G ad ty hv σ (up (up (up (up (up (up (up (up (up (up ς 0 ga) 1 gb) 2 (sc (na))) 6 la) 7 me) 8 (sc (n8))) 10 qu) 9 (ug qd (qu fi) 0)) 11 (dcw (qu fi) wT)) 12 (dcq (qu fi) qT)) κa cs hW (show wfS (dcw (qu fi) wT) (dcq (qu fi) qT) from ⟨dcw_b hT.1, dcq_b hT.2⟩) (show (0 < σ 9 0 → 0 ≤ dcw (qu fi) wT 0 ∧ dcw (qu fi) wT 0 < σ 8 0) ∧ (1 < σ 9 0 → 0 ≤ dcw (qu fi) wT 1 ∧ dcw (qu fi) wT 1 < σ 8 0) ∧ (2 < σ 9 0 → 0 ≤ dcw (qu fi) wT 2 ∧ dcw (qu fi) wT 2 < σ 8 0) from okC_dc (hSK.toMet.okc hokS hic hlc)) H.size) (cwV 1 hts (lw_V q545 q547 qs19 q76 q548) rfl rfl rfl (by decide +kernel) ⟨Nat.le_of_ble_eq_true rfl, Nat.le_of_ble_eq_true rfl⟩) (pvM (r := (RX1, TX1, 21)) hK hP hD hX 0 (aD_0 _ _ _ _ _ _ _) rfl) rfl rfl hl.1 rfl (lv_room (Nat.le_of_ble_eq_true rfl)) dX1_finds_108 ⟨Nat.le_of_ble_eq_true rfl, Nat.le_of_ble_eq_true rfl⟩) hD hS hA (fun v ws1 H locs hv hP hD hS => ?_)
          obtain ⟨gl108, gm108, nl108, κ108, rfl, rfl, hLI108, hn0108, hn1108⟩ := hv
          have hP : va_P G gcl (wD ad ty hv σ (up (up (up (up (up (up (up (up (up (up ς 6 la) 7 me) 8 (sc (n8))) 10 qu) 9 (ug qd (qu fi) 0)) 11 (dcw (qu fi) wT)) 12 (dcq (qu fi) qT)) 0 gl108) 1 gm108) 2 (sc (nl108))) κ108 ++ cs) H := hP
          have hD : va_D A (wD ad ty hv σ (up (up (up (up (up (up (up (up (up (up ς 6 la) 7 me) 8 (sc (n8))) 10 qu) 9 (ug qd (qu fi) 0)) 11 (dcw (qu fi) wT)) 12 (dcq (qu fi) qT)) 0 gl108) 1 gm108) 2 (sc (nl108))) κ108 ++ cs) := hD
          have hLI108 : LI (leg σ (qu fi)) (mvV σ) gl108 gm108 nl108 70000 := LI_dc hLI108
          refine li_iconst hx hb dX1_finds_111 ?_
          refine lv_istore (lv' := [(4, .int (ii 0)), (2, .int (ii (ma + (-1)))), (1, .int (ii ((fi + 1) % 4500))), (3, .int (ii (qu fi))), (0, .ref (ad 0))]) hx hb dX1_finds_112 hl (by decide) rfl (fun ls hl => ?_)
          have X114 : ∀ (k1 : Int) (mb : Int) (κb : mem) (lb : Int → Int) (mf : Int → Int) (nb : Int) (qb : Int → Int) (qv : Int → Int) (_ : SD (EF σ) (cdv (σ 6) (σ 7)) lb mf nb qb qv ((fi + 1) % 4500) mb) (_ : 0 ≤ 2 * smN lb 4500 + mb) (_ : 2 * smN lb 4500 + mb ≤ 2 * smN la 4500 + (ma - 1)) (H : Heap) (locs : List Loc) (_ : va_P G gcl (wD ad ty hv σ (up (up (up (up (up (up (up (up (up (up ς 11 (dcw (qu fi) wT)) 12 (dcq (qu fi) qT)) 0 gl108) 1 gm108) 2 (sc (nl108))) 6 lb) 7 mf) 8 (sc (nb))) 9 qb) 10 qv) κb ++ cs) H) (_ : va_D A (wD ad ty hv σ (up (up (up (up (up (up (up (up (up (up ς 11 (dcw (qu fi) wT)) 12 (dcq (qu fi) qT)) 0 gl108) 1 gm108) 2 (sc (nl108))) 6 lb) 7 mf) 8 (sc (nb))) 9 qb) 10 qv) κb ++ cs)) (_ : va_S A s.heap H locs) (ls : Array Slot), lv_has ls 7 [(2, .int (ii mb)), (1, .int (ii ((fi + 1) % 4500))), (0, .ref (ad 0))] → W p l e (rm4 5 0 0 120) s m args below meth c H locs 0 0 Q (F0 m 223 ls []) := by
            intro k1 mb κb lb mf nb qb qv hSD hsm2 hphi H locs hP hD hS ls hl
            have hT : wfS (dcw (qu fi) wT) (dcq (qu fi) qT) := ⟨dcw_b hT.1, dcq_b hT.2⟩
            refine lv_goto (tgt := 66) hx hb dX1_finds_223 (by decide) ?_
            exact ih mb ((fi + 1) % 4500) κb gl108 gm108 nl108 lb mf nb qb qv (dcw (qu fi) wT) (dcq (qu fi) qT) (hT) (hSD) (by omega) H locs hP hD hS ls (lv_sub hl [0, 1, 2] rfl)
          have L114 : ∀ (n : Nat) (k1 : Int) (mb : Int) (κb : mem) (lb : Int → Int) (mf : Int → Int) (nb : Int) (qb : Int → Int) (qv : Int → Int) (_ : 0 ≤ k1) (_ : k1 ≤ nl108) (_ : SK (EF σ) (cdv (σ 6) (σ 7)) lb mf nb qb qv ((fi + 1) % 4500) mb (fun x => x = qu fi)) (_ : gone σ (qu fi) lb k1) (_ : lb (qu fi) ≠ FARc) (_ : 2 * smN lb 4500 + mb ≤ 2 * smN la 4500 + (ma - 1)) (_ : (nl108 - k1).toNat < n) (H : Heap) (locs : List Loc) (_ : va_P G gcl (wD ad ty hv σ (up (up (up (up (up (up (up (up (up (up ς 11 (dcw (qu fi) wT)) 12 (dcq (qu fi) qT)) 0 gl108) 1 gm108) 2 (sc (nl108))) 6 lb) 7 mf) 8 (sc (nb))) 9 qb) 10 qv) κb ++ cs) H) (_ : va_D A (wD ad ty hv σ (up (up (up (up (up (up (up (up (up (up ς 11 (dcw (qu fi) wT)) 12 (dcq (qu fi) qT)) 0 gl108) 1 gm108) 2 (sc (nl108))) 6 lb) 7 mf) 8 (sc (nb))) 9 qb) 10 qv) κb ++ cs)) (_ : va_S A s.heap H locs) (ls : Array Slot), lv_has ls 7 [(4, .int (ii k1)), (2, .int (ii mb)), (1, .int (ii ((fi + 1) % 4500))), (3, .int (ii (qu fi))), (0, .ref (ad 0))] → W p l e (rm4 5 0 0 120) s m args below meth c H locs 0 0 Q (F0 m 114 ls []) := by
            intro n
            induction n with
            | zero =>
              intro k1 mb κb lb mf nb qb qv hk0 hk1 hSKb hgo hlcb hphi hm
              exact absurd hm (Nat.not_lt_zero _)
            | succ n ih =>
              intro k1 mb κb lb mf nb qb qv hk0 hk1 hSKb hgo hlcb hphi hm H locs hP hD hS ls hl
              refine lv_iload hx hb dX1_finds_114 (lv_at hl 0 rfl) ?_
              refine lv_aload_n hx hb dX1_finds_116 rfl (lv_at hl 4 rfl) ?_
              refine va_get (D := G) (ci := 0) (v := .int (ii nl108)) (C := RX1) (T := TX1) (N := 21) hx hb hts in_X1 hown hK hP 0 (aD_0 _ _ _ _ _ _ _) rfl 7 (by decide) (hts _ q984) (fun _ h9 => h9) rfl dX1_finds_117 ?_
              refine li_icmp_ge (tgt := 223) hx hb ⟨by omega, by omega⟩ ⟨by omega, by omega⟩ dX1_finds_120 (by decide) (fun c120 => ?_) (fun c120 => ?_)
              · exact X114 k1 mb κb lb mf nb qb qv (SD.of (SK.fin hSKb (gone_all hgo (by have := hLI108.1; omega)))) (by have := Mt.sm hSKb.toMet; have := hSKb.m0; omega) (by omega) H locs hP hD hS ls (lv_sub hl [1, 2, 4] rfl)
              · obtain ⟨ha0, ha1, hleg, hval, hcn⟩ := LI_at hLI108 (by decide) hk0 c120
                have hvb := mvV_b hW hleg.1
                refine lv_aload_n hx hb dX1_finds_123 rfl (lv_at hl 4 rfl) ?_
                refine lv_aload_n hx hb dX1_finds_124 rfl (lv_at hl 4 rfl) ?_
                refine va_get (D := G) (ci := 0) (v := .ref (ad 48)) (C := RX1) (T := TX1) (N := 21) hx hb hts in_X1 hown hK hP 0 (aD_0 _ _ _ _ _ _ _) rfl 15 (by decide) (hts _ q992) (fun _ h9 => h9) rfl dX1_finds_125 ?_
                refine lv_aload_n hx hb dX1_finds_128 rfl (lv_at hl 4 rfl) ?_
                refine va_get (D := G) (ci := 0) (v := .ref (ad 39)) (C := RX1) (T := TX1) (N := 21) hx hb hts in_X1 hown hK hP 0 (aD_0 _ _ _ _ _ _ _) rfl 5 (by decide) (hts _ q982) (fun _ h9 => h9) rfl dX1_finds_129 ?_
                refine lv_iload hx hb dX1_finds_132 (lv_at hl 0 rfl) ?_
                refine li_iald (g := gl108) hx hb hK hP 39 0 (aD_39 _ _ _ _ _ _ _) rfl (by omega) (by omega) (by decide) dX1_finds_134 ?_
                refine kM (va_runV (As := [.ref (ad 48), .int (ii (gl108 k1))]) (rest := []) ⟨hx, hb, hml, hown, hts⟩ ((m_behind l G ad ty hv σ (up (up (up (up (up (up (up (up (up (up ς 11 (dcw (qu fi) wT)) 12 (dcq (qu fi) qT)) 0 gl108) 1 gm108) 2 (sc (nl108))) 6 lb) 7 mf) 8 (sc (nb))) 9 qb) 10 qv) κb cs (gl108 k1) (hleg.1)) H.size) (cwV 2 hts (lw_V q630 q632 qs25 q76 q633) rfl rfl rfl (by decide +kernel) ⟨Nat.le_of_ble_eq_true rfl, Nat.le_of_ble_eq_true rfl⟩) (pvM (r := (RX1, TX1, 21)) hK hP hD hX 0 (aD_0 _ _ _ _ _ _ _) rfl) rfl rfl hl.1 rfl (lv_room (Nat.le_of_ble_eq_true rfl)) dX1_finds_135 ⟨Nat.le_of_ble_eq_true rfl, Nat.le_of_ble_eq_true rfl⟩) hD hS hA (fun v ws1 H locs hv hP hD hS => ?_)
                obtain ⟨κ135, rfl, rfl⟩ := hv
                have hP : va_P G gcl (wD ad ty hv σ (up (up (up (up (up (up (up (up (up (up ς 11 (dcw (qu fi) wT)) 12 (dcq (qu fi) qT)) 0 gl108) 1 gm108) 2 (sc (nl108))) 6 lb) 7 mf) 8 (sc (nb))) 9 qb) 10 qv) κ135 ++ cs) H := hP
                have hD : va_D A (wD ad ty hv σ (up (up (up (up (up (up (up (up (up (up ς 11 (dcw (qu fi) wT)) 12 (dcq (qu fi) qT)) 0 gl108) 1 gm108) 2 (sc (nl108))) 6 lb) 7 mf) 8 (sc (nb))) 9 qb) 10 qv) κ135 ++ cs) := hD
                refine li_topx (z := nx (qu fi) (gl108 k1)) (congrArg ii (nxS_dc _ _ _ _)) ?_
                refine lv_istore (lv' := [(5, .int (ii (nx (qu fi) (gl108 k1)))), (4, .int (ii k1)), (2, .int (ii mb)), (1, .int (ii ((fi + 1) % 4500))), (3, .int (ii (qu fi))), (0, .ref (ad 0))]) hx hb dX1_finds_138 hl (by decide) rfl (fun ls hl => ?_)
                have hnx := nx_in (c := qu fi) hleg.1
                obtain ⟨hnx0, hnx1⟩ := id hnx
                have hrt := hSKb.toMet.rg hnx
                have hrc := hSKb.toMet.rg hic
                refine lv_aload_n hx hb dX1_finds_140 rfl (lv_at hl 5 rfl) ?_
                refine va_get (D := G) (ci := 0) (v := .ref (ad 44)) (C := RX1) (T := TX1) (N := 21) hx hb hts in_X1 hown hK hP 0 (aD_0 _ _ _ _ _ _ _) rfl 10 (by decide) (hts _ q987) (fun _ h9 => h9) rfl dX1_finds_141 ?_
                refine lv_iload_n hx hb dX1_finds_144 rfl (lv_at hl 4 rfl) ?_
                refine li_iald (g := lb) hx hb hK hP 44 0 (aD_44 _ _ _ _ _ _ _) rfl (hic0) (hic1) (by decide) dX1_finds_145 ?_
                refine lv_aload_n hx hb dX1_finds_146 rfl (lv_at hl 5 rfl) ?_
                refine va_get (D := G) (ci := 0) (v := .ref (ad 40)) (C := RX1) (T := TX1) (N := 21) hx hb hts in_X1 hown hK hP 0 (aD_0 _ _ _ _ _ _ _) rfl 6 (by decide) (hts _ q983) (fun _ h9 => h9) rfl dX1_finds_147 ?_
                refine lv_iload hx hb dX1_finds_150 (lv_at hl 1 rfl) ?_
                refine li_iald (g := gm108) hx hb hK hP 40 0 (aD_40 _ _ _ _ _ _ _) rfl (by omega) (by omega) (by decide) dX1_finds_152 ?_
                refine li_add hx hb dX1_finds_153 ?_
                refine lv_istore (lv' := [(6, .int (ii (lb (qu fi) + (gm108 k1)))), (5, .int (ii (nx (qu fi) (gl108 k1)))), (4, .int (ii k1)), (2, .int (ii mb)), (1, .int (ii ((fi + 1) % 4500))), (3, .int (ii (qu fi))), (0, .ref (ad 0))]) hx hb dX1_finds_154 hl (by decide) rfl (fun ls hl => ?_)
                refine lv_iload hx hb dX1_finds_156 (lv_at hl 0 rfl) ?_
                refine lv_aload_n hx hb dX1_finds_158 rfl (lv_at hl 6 rfl) ?_
                refine va_get (D := G) (ci := 0) (v := .ref (ad 44)) (C := RX1) (T := TX1) (N := 21) hx hb hts in_X1 hown hK hP 0 (aD_0 _ _ _ _ _ _ _) rfl 10 (by decide) (hts _ q987) (fun _ h9 => h9) rfl dX1_finds_159 ?_
                refine lv_iload hx hb dX1_finds_162 (lv_at hl 1 rfl) ?_
                refine li_iald (g := lb) hx hb hK hP 44 0 (aD_44 _ _ _ _ _ _ _) rfl (by omega) (by omega) (by decide) dX1_finds_164 ?_
                refine li_icmp_lt (tgt := 171) hx hb ⟨by omega, by omega⟩ (rgi hrt.1 hrt.2) dX1_finds_165 (by decide) (fun c165 => ?_) (fun c165 => ?_)
                · have hdc : nx (qu fi) (gl108 k1) ≠ qu fi := fun z => by rw [z] at c165; omega
                  refine lv_aload_n hx hb dX1_finds_171 rfl (lv_at hl 6 rfl) ?_
                  refine lv_iload hx hb dX1_finds_172 (lv_at hl 1 rfl) ?_
                  refine lv_iload hx hb dX1_finds_174 (lv_at hl 0 rfl) ?_
                  refine kM (va_runV (As := [.int (ii (nx (qu fi) (gl108 k1))), .int (ii (lb (qu fi) + (gm108 k1)))]) (rest := []) ⟨hx, hb, hml, hown, hts⟩ ((m_reaches l G ad ty hv σ (up (up (up (up (up (up (up (up (up (up ς 11 (dcw (qu fi) wT)) 12 (dcq (qu fi) qT)) 0 gl108) 1 gm108) 2 (sc (nl108))) 6 lb) 7 mf) 8 (sc (nb))) 9 qb) 10 qv) κ135 cs (nx (qu fi) (gl108 k1)) (lb (qu fi) + (gm108 k1)) (show inSt (nx (qu fi) (gl108 k1)) from nx_in hleg.1) (show 0 ≤ lb (nx (qu fi) (gl108 k1)) ∧ lb (nx (qu fi) (gl108 k1)) ≤ FARc from hrt) (show 0 ≤ nb ∧ (lb (nx (qu fi) (gl108 k1)) = FARc → nb < 4500) from ⟨by have := hSKb.n1; omega, fun h => hSKb.toMet.room (nx_in hleg.1) h⟩)) H.size) (cwV 2 hts (lw_V q622 q624 qs24 q76 q625) rfl rfl rfl (by decide +kernel) ⟨Nat.le_of_ble_eq_true rfl, Nat.le_of_ble_eq_true rfl⟩) (pvM (r := (RX1, TX1, 21)) hK hP hD hX 0 (aD_0 _ _ _ _ _ _ _) rfl) rfl rfl hl.1 rfl (lv_room (Nat.le_of_ble_eq_true rfl)) dX1_finds_176 ⟨Nat.le_of_ble_eq_true rfl, Nat.le_of_ble_eq_true rfl⟩) hD hS hA (fun v ws1 H locs hv hP hD hS => ?_)
                  obtain ⟨g176, n176, rfl, rfl, hg176, hn176⟩ := hv
                  have hP : va_P G gcl (wD ad ty hv σ (up (up (up (up (up (up (up (up (up (up ς 11 (dcw (qu fi) wT)) 12 (dcq (qu fi) qT)) 0 gl108) 1 gm108) 2 (sc (nl108))) 9 qb) 10 qv) 7 g176) 8 (sc (n176))) 6 (ug lb (nx (qu fi) (gl108 k1)) (lb (qu fi) + (gm108 k1)))) κ135 ++ cs) H := hP
                  have hD : va_D A (wD ad ty hv σ (up (up (up (up (up (up (up (up (up (up ς 11 (dcw (qu fi) wT)) 12 (dcq (qu fi) qT)) 0 gl108) 1 gm108) 2 (sc (nl108))) 9 qb) 10 qv) 7 g176) 8 (sc (n176))) 6 (ug lb (nx (qu fi) (gl108 k1)) (lb (qu fi) + (gm108 k1)))) κ135 ++ cs) := hD
                  have hg176 : g176 = if lb (nx (qu fi) (gl108 k1)) = FARc then ug mf nb (nx (qu fi) (gl108 k1)) else mf := hg176
                  have hn176 : n176 = if lb (nx (qu fi) (gl108 k1)) = FARc then nb + 1 else nb := hn176
                  refine lv_aload_n hx hb dX1_finds_179 rfl (lv_at hl 6 rfl) ?_
                  refine va_get (D := G) (ci := 0) (v := .ref (ad 46)) (C := RX1) (T := TX1) (N := 21) hx hb hts in_X1 hown hK hP 0 (aD_0 _ _ _ _ _ _ _) rfl 13 (by decide) (hts _ q990) (fun _ h9 => h9) rfl dX1_finds_180 ?_
                  have hq01 := hSKb.qb _ hnx
                  refine lv_iload hx hb dX1_finds_183 (lv_at hl 1 rfl) ?_
                  refine li_zald (g := qb) hx hb hK hP 46 1 (aD_46 _ _ _ _ _ _ _) rfl (by omega) (by omega) (by decide) dX1_finds_185 ?_
                  refine li_if_eq (tgt := 192) hx hb ⟨by omega, by omega⟩ dX1_finds_186 (by decide) (fun c186 => ?_) (fun c186 => ?_)
                  · have hqn : ¬ qb (nx (qu fi) (gl108 k1)) = 1 := by omega
                    have hmb := hSKb.room hnx hqn
                    have hmb0 := hSKb.m0
                    refine lv_aload_n hx hb dX1_finds_192 rfl (lv_at hl 6 rfl) ?_
                    refine va_get (D := G) (ci := 0) (v := .ref (ad 46)) (C := RX1) (T := TX1) (N := 21) hx hb hts in_X1 hown hK hP 0 (aD_0 _ _ _ _ _ _ _) rfl 13 (by decide) (hts _ q990) (fun _ h9 => h9) rfl dX1_finds_193 ?_
                    refine lv_iload hx hb dX1_finds_196 (lv_at hl 1 rfl) ?_
                    refine li_iconst hx hb dX1_finds_198 ?_
                    refine li_zast (g := qb) (W2 := wD ad ty hv σ (up (up (up (up (up (up (up (up (up (up ς 11 (dcw (qu fi) wT)) 12 (dcq (qu fi) qT)) 0 gl108) 1 gm108) 2 (sc (nl108))) 10 qv) 7 g176) 8 (sc (n176))) 6 (ug lb (nx (qu fi) (gl108 k1)) (lb (qu fi) + (gm108 k1)))) 9 (ug qb (nx (qu fi) (gl108 k1)) 1)) κ135 ++ cs) hx hb hK hP hD hS 46 1 (aD_46 _ _ _ _ _ _ _) rfl (by omega) (by omega) (by decide) (by omega) rfl dX1_finds_199 (fun H locs hP hD hS => ?_)
                    refine lv_aload_n hx hb dX1_finds_200 rfl (lv_at hl 6 rfl) ?_
                    refine va_get (D := G) (ci := 0) (v := .ref (ad 47)) (C := RX1) (T := TX1) (N := 21) hx hb hts in_X1 hown hK hP 0 (aD_0 _ _ _ _ _ _ _) rfl 14 (by decide) (hts _ q991) (fun _ h9 => h9) rfl dX1_finds_201 ?_
                    refine lv_iload_n hx hb dX1_finds_204 rfl (lv_at hl 4 rfl) ?_
                    refine lv_iload_n hx hb dX1_finds_205 rfl (lv_at hl 3 rfl) ?_
                    refine li_add hx hb dX1_finds_206 ?_
                    refine li_sipush hx hb dX1_finds_207 (by decide) ?_
                    refine li_rem hx hb (by omega) (by omega) (by omega) (by omega) dX1_finds_210 ?_
                    refine lv_iload hx hb dX1_finds_211 (lv_at hl 1 rfl) ?_
                    refine li_iast (g := qv) (W2 := wD ad ty hv σ (up (up (up (up (up (up (up (up (up (up ς 11 (dcw (qu fi) wT)) 12 (dcq (qu fi) qT)) 0 gl108) 1 gm108) 2 (sc (nl108))) 7 g176) 8 (sc (n176))) 6 (ug lb (nx (qu fi) (gl108 k1)) (lb (qu fi) + (gm108 k1)))) 9 (ug qb (nx (qu fi) (gl108 k1)) 1)) 10 (ug qv (((fi + 1) % 4500 + mb) % 4500) (nx (qu fi) (gl108 k1)))) κ135 ++ cs) hx hb hK hP hD hS 47 0 (aD_47 _ _ _ _ _ _ _) rfl (by omega) (by omega) (by decide) rfl dX1_finds_213 (fun H locs hP hD hS => ?_)
                    refine li_iinc (a := mb) (lv' := [(2, .int (ii (mb + 1))), (6, .int (ii (lb (qu fi) + (gm108 k1)))), (5, .int (ii (nx (qu fi) (gl108 k1)))), (4, .int (ii k1)), (1, .int (ii ((fi + 1) % 4500))), (3, .int (ii (qu fi))), (0, .ref (ad 0))]) hx hb dX1_finds_214 hl (k := 3) rfl (by decide) rfl (fun ls hl => ?_)
                    refine li_iinc (a := k1) (lv' := [(4, .int (ii (k1 + 1))), (2, .int (ii (mb + 1))), (6, .int (ii (lb (qu fi) + (gm108 k1)))), (5, .int (ii (nx (qu fi) (gl108 k1)))), (1, .int (ii ((fi + 1) % 4500))), (3, .int (ii (qu fi))), (0, .ref (ad 0))]) hx hb dX1_finds_217 hl (k := 3) rfl (by decide) rfl (fun ls hl => ?_)
                    refine lv_goto (tgt := 114) hx hb dX1_finds_220 (by decide) ?_
                    exact ih (k1 + 1) (mb + 1) κ135 (ug lb (nx (qu fi) (gl108 k1)) (lb (qu fi) + (gm108 k1))) g176 n176 (ug qb (nx (qu fi) (gl108 k1)) 1) (ug qv (((fi + 1) % 4500 + mb) % 4500) (nx (qu fi) (gl108 k1))) (by omega) (by omega) (by rw [hg176, hn176]; exact SK.relaxN hSKb hic hlcb ⟨gl108 k1, hleg, hval, rfl⟩ hnx (by omega) (by omega) c165 hqn) (gone_s hgo hleg hcn (ug_n (Ne.symm hdc)) (ug_le (Int.le_of_lt c165)) (by rw [ug_s]; omega)) (by rw [ug_n (Ne.symm hdc)]; exact hlcb) (by have := smN_ug lb (nx (qu fi) (gl108 k1)) (lb (qu fi) + gm108 k1) hnx0 4500; rw [if_pos (show (nx (qu fi) (gl108 k1)) < ((4500 : Nat) : Int) from hnx1)] at this; omega) (by omega) H locs hP hD hS ls (lv_sub hl [0, 1, 4, 5, 6] rfl)
                  · refine lv_goto (tgt := 217) hx hb dX1_finds_189 (by decide) ?_
                    refine li_iinc (a := k1) (lv' := [(4, .int (ii (k1 + 1))), (6, .int (ii (lb (qu fi) + (gm108 k1)))), (5, .int (ii (nx (qu fi) (gl108 k1)))), (2, .int (ii mb)), (1, .int (ii ((fi + 1) % 4500))), (3, .int (ii (qu fi))), (0, .ref (ad 0))]) hx hb dX1_finds_217 hl (k := 2) rfl (by decide) rfl (fun ls hl => ?_)
                    refine lv_goto (tgt := 114) hx hb dX1_finds_220 (by decide) ?_
                    exact ih (k1 + 1) mb κ135 (ug lb (nx (qu fi) (gl108 k1)) (lb (qu fi) + (gm108 k1))) g176 n176 qb qv (by omega) (by omega) (by rw [hg176, hn176]; exact SK.relaxQ hSKb hic hlcb ⟨gl108 k1, hleg, hval, rfl⟩ hnx (by omega) (by omega) c165 (by omega)) (gone_s hgo hleg hcn (ug_n (Ne.symm hdc)) (ug_le (Int.le_of_lt c165)) (by rw [ug_s]; omega)) (by rw [ug_n (Ne.symm hdc)]; exact hlcb) (by have := smN_ug lb (nx (qu fi) (gl108 k1)) (lb (qu fi) + gm108 k1) hnx0 4500; rw [if_pos (show (nx (qu fi) (gl108 k1)) < ((4500 : Nat) : Int) from hnx1)] at this; omega) (by omega) H locs hP hD hS ls (lv_sub hl [0, 3, 4, 5, 6] rfl)
                · refine lv_goto (tgt := 217) hx hb dX1_finds_168 (by decide) ?_
                  refine li_iinc (a := k1) (lv' := [(4, .int (ii (k1 + 1))), (6, .int (ii (lb (qu fi) + (gm108 k1)))), (5, .int (ii (nx (qu fi) (gl108 k1)))), (2, .int (ii mb)), (1, .int (ii ((fi + 1) % 4500))), (3, .int (ii (qu fi))), (0, .ref (ad 0))]) hx hb dX1_finds_217 hl (k := 2) rfl (by decide) rfl (fun ls hl => ?_)
                  refine lv_goto (tgt := 114) hx hb dX1_finds_220 (by decide) ?_
                  exact ih (k1 + 1) mb κ135 lb mf nb qb qv (by omega) (by omega) (hSKb) (gone_s hgo hleg hcn rfl (fun _ => Int.le_refl _) (by omega)) (hlcb) (hphi) (by omega) H locs hP hD hS ls (lv_sub hl [0, 3, 4, 5, 6] rfl)
          exact L114 _ 0 (ma + (-1)) κ108 la me n8 (ug qd (qu fi) 0) qu (by omega) (by omega) (hSK) (gone_0 _ _ _) (hlc) (by omega) (Nat.lt_succ_self _) H locs hP hD hS ls (lv_sub hl [0, 1, 2, 3, 4] rfl)
    exact L66 _ 1 0 κ (ς 0) (ς 1) (ς 2 0) (ug la0 (cdv (σ 6) (σ 7)) 0) g63 n63 qd0 (ug (ς 10) 0 (cdv (σ 6) (σ 7))) (ς 11) (ς 12) (hT) (by rw [hg63, hn63, if_pos (hla _ hst), if_pos (hla _ hst)]; exact SD.start _ hst hla hqa) (Nat.lt_succ_self _) H locs hP hD hS ls (lv_sub hl [0, 1, 2] rfl)
  have L7 : ∀ (n : Nat) (i1 : Int) (la0 : Int → Int) (qd0 : Int → Int) (_ : 0 ≤ i1) (_ : i1 ≤ 4500) (_ : ∀ c, 0 ≤ c → c < i1 → la0 c = FARc) (_ : ∀ c, 0 ≤ c → c < i1 → qd0 c = 0) (_ : (4500 - i1).toNat < n) (H : Heap) (locs : List Loc) (_ : va_P G gcl (wD ad ty hv σ (up (up (up ς 8 (sc (0))) 6 la0) 9 qd0) κ ++ cs) H) (_ : va_D A (wD ad ty hv σ (up (up (up ς 8 (sc (0))) 6 la0) 9 qd0) κ ++ cs)) (_ : va_S A s.heap H locs) (ls : Array Slot), lv_has ls 7 [(1, .int (ii i1)), (0, .ref (ad 0))] → W p l e (rm4 5 0 0 120) s m args below meth c H locs 0 0 Q (F0 m 7 ls []) := by
    intro n
    induction n with
    | zero =>
      intro i1 la0 qd0 hi0 hi1 hla hqa hm
      exact absurd hm (Nat.not_lt_zero _)
    | succ n ih =>
      intro i1 la0 qd0 hi0 hi1 hla hqa hm H locs hP hD hS ls hl
      refine lv_iload_n hx hb dX1_finds_7 rfl (lv_at hl 0 rfl) ?_
      refine li_sipush hx hb dX1_finds_8 (by decide) ?_
      refine li_icmp_ge (tgt := 35) hx hb ⟨by omega, by omega⟩ ⟨by decide, by decide⟩ dX1_finds_11 (by decide) (fun c11 => ?_) (fun c11 => ?_)
      · exact X7 i1 la0 qd0 (fun c h => hla c h.1 (Int.lt_of_lt_of_le h.2 c11)) (fun c h => hqa c h.1 (Int.lt_of_lt_of_le h.2 c11)) H locs hP hD hS ls (lv_sub hl [1] rfl)
      · refine lv_aload_n hx hb dX1_finds_14 rfl (lv_at hl 1 rfl) ?_
        refine va_get (D := G) (ci := 0) (v := .ref (ad 44)) (C := RX1) (T := TX1) (N := 21) hx hb hts in_X1 hown hK hP 0 (aD_0 _ _ _ _ _ _ _) rfl 10 (by decide) (hts _ q987) (fun _ h9 => h9) rfl dX1_finds_15 ?_
        refine lv_iload_n hx hb dX1_finds_18 rfl (lv_at hl 0 rfl) ?_
        refine lv_ldc (v := ii 1000000000) hx hb hown (hts _ q617) dX1_finds_19 ?_
        refine li_iast (g := la0) (W2 := wD ad ty hv σ (up (up (up ς 8 (sc (0))) 9 qd0) 6 (ug la0 i1 1000000000)) κ ++ cs) hx hb hK hP hD hS 44 0 (aD_44 _ _ _ _ _ _ _) rfl (by omega) (by omega) (by decide) rfl dX1_finds_21 (fun H locs hP hD hS => ?_)
        refine lv_aload_n hx hb dX1_finds_22 rfl (lv_at hl 1 rfl) ?_
        refine va_get (D := G) (ci := 0) (v := .ref (ad 46)) (C := RX1) (T := TX1) (N := 21) hx hb hts in_X1 hown hK hP 0 (aD_0 _ _ _ _ _ _ _) rfl 13 (by decide) (hts _ q990) (fun _ h9 => h9) rfl dX1_finds_23 ?_
        refine lv_iload_n hx hb dX1_finds_26 rfl (lv_at hl 0 rfl) ?_
        refine li_iconst hx hb dX1_finds_27 ?_
        refine li_zast (g := qd0) (W2 := wD ad ty hv σ (up (up (up ς 8 (sc (0))) 6 (ug la0 i1 1000000000)) 9 (ug qd0 i1 0)) κ ++ cs) hx hb hK hP hD hS 46 1 (aD_46 _ _ _ _ _ _ _) rfl (by omega) (by omega) (by decide) (by omega) rfl dX1_finds_28 (fun H locs hP hD hS => ?_)
        refine li_iinc (a := i1) (lv' := [(1, .int (ii (i1 + 1))), (0, .ref (ad 0))]) hx hb dX1_finds_29 hl (k := 0) rfl (by decide) rfl (fun ls hl => ?_)
        refine lv_goto (tgt := 7) hx hb dX1_finds_32 (by decide) ?_
        exact ih (i1 + 1) (ug la0 i1 1000000000) (ug qd0 i1 0) (by omega) (by omega) (ini_s hla) (ini_s hqa) (by omega) H locs hP hD hS ls (lv_sub hl [0, 1] rfl)
  exact L7 _ 0 (ς 6) (ς 9) (by omega) (by omega) (fun c a b => by omega) (fun c a b => by omega) (Nat.lt_succ_self _) H locs hP hD hS ls (lv_sub hl [0, 1] rfl)
