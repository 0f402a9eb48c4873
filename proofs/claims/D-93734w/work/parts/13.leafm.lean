/-! LEAF METHODS THAT WRITE (written by gen/leafm.py) -/
set_option maxRecDepth 100000
set_option maxHeartbeats 4000000 in
theorem m_decodes (l : Launch) (G : va_G) (ty : Nat → ClassId) (ws : va_W) (si sd : Nat → Nat) (w q : Int → Int) (v : Int) (hSp : spotAt ty ws si sd w q) (hv0 : 0 ≤ v ∧ v < 4500) (n_si1_si0 : (si 1) ≠ (si 0)) (n_si1_si2 : (si 1) ≠ (si 2)) (n_si2_si0 : (si 2) ≠ (si 0)) (n_si2_si1 : (si 2) ≠ (si 1)) : cM l yX3_decodes (ws_ yX3_decodes cX3_decodes 4 none) (rm4 0 0 0 0) G ty (ws) [.ref (sd 0), .int (ii v)] 0 0 (fun r W' => r = none ∧ W' = (ws.set (si 1) (sd 1, .inl (ty 0, 3, .inl (fa (dcw v w))))).set (si 2) (sd 2, .inl (ty 0, 2, .inl (fa (dcq v q))))) := by
  refine cM.of (by decide) (Nat.le_of_ble_eq_true rfl) ?_
  intro p e s m args below meth c A Q H locs hQ hx hb hr hml hown hlk hname hts hK hP hD hS hA hX ls hl
  have hl : lv_has ls 4 [(0, .ref (sd 0)), (1, .int (ii v))] := hl
  refine lv_iload_n hx hb dX3_decodes_0 rfl (lv_at hl 1 rfl) ?_
  refine lv_istore_n (lv' := [(2, .int (ii v)), (0, .ref (sd 0)), (1, .int (ii v))]) hx hb dX3_decodes_1 rfl hl (by decide) rfl (fun ls hl => ?_)
  refine li_iconst hx hb dX3_decodes_2 ?_
  refine lv_istore_n (lv' := [(3, .int (ii 0)), (2, .int (ii v)), (0, .ref (sd 0)), (1, .int (ii v))]) hx hb dX3_decodes_3 rfl hl (by decide) rfl (fun ls hl => ?_)
  refine lv_iload_n hx hb dX3_decodes_4 rfl (lv_at hl 0 rfl) ?_
  refine li_iconst hx hb dX3_decodes_5 ?_
  refine li_icmp_ge (tgt := 28) hx hb ⟨by decide, by decide⟩ ⟨by decide, by decide⟩ dX3_decodes_6 (by decide) (fun c6 => ?_) (fun c6 => ?_)
  · exact absurd c6 (by decide)
  · refine lv_aload_n hx hb dX3_decodes_9 rfl (lv_at hl 2 rfl) ?_
    refine va_get (D := G) (fs := [.ref (sd 1), .ref (sd 2)]) (ci := 2) (v := .ref (sd 1)) (C := RX3) (T := TX3) (N := 2) hx hb hts in_X3 hown hK hP (si 0) hSp.1 rfl 0 (by decide) (hts _ q654) (fun _ h9 => h9) rfl dX3_decodes_10 ?_
    refine lv_iload_n hx hb dX3_decodes_13 rfl (lv_at hl 0 rfl) ?_
    refine lv_iload_n hx hb dX3_decodes_14 rfl (lv_at hl 1 rfl) ?_
    refine li_iconst hx hb dX3_decodes_15 ?_
    refine li_rem hx hb (by omega) (by omega) (by omega) (by omega) dX3_decodes_16 ?_
    refine li_iast (g := w) (W2 := (ws.set (si 1) (sd 1, .inl (ty 0, 3, .inl (fa (ug w 0 (v % 5))))))) hx hb hK hP hD hS (si 1) 0 hSp.2.1 rfl (by decide) (by decide) (by decide) rfl dX3_decodes_17 (fun H locs hP hD hS => ?_)
    obtain ⟨ws1_, hws1_⟩ : ∃ z, z = (ws.set (si 1) (sd 1, .inl (ty 0, 3, .inl (fa (ug w 0 (v % 5)))))) := ⟨_, rfl⟩
    replace hP : va_P G gcl ws1_ H := by rw [hws1_]; exact hP
    replace hD : va_D A ws1_ := by rw [hws1_]; exact hD
    have h1_0 : ws1_[(si 0)]? = some (sd 0, .inr (2, [.ref (sd 1), .ref (sd 2)])) := by rw [hws1_]; exact gs_n n_si1_si0 hSp.1
    have h1_1 : ws1_[(si 1)]? = some (sd 1, .inl (ty 0, 3, .inl (fa (ug w 0 (v % 5))))) := by rw [hws1_]; exact gs_s hSp.2.1
    have h1_2 : ws1_[(si 2)]? = some (sd 2, .inl (ty 0, 2, .inl (fa q))) := by rw [hws1_]; exact gs_n n_si1_si2 hSp.2.2
    refine lv_iload_n hx hb dX3_decodes_18 rfl (lv_at hl 1 rfl) ?_
    refine li_iconst hx hb dX3_decodes_19 ?_
    refine li_div hx hb (by omega) (by omega) (by omega) (by omega) dX3_decodes_20 ?_
    refine lv_istore_n (lv' := [(2, .int (ii (v / 5))), (3, .int (ii 0)), (0, .ref (sd 0)), (1, .int (ii v))]) hx hb dX3_decodes_21 rfl hl (by decide) rfl (fun ls hl => ?_)
    refine li_iinc (a := 0) (lv' := [(3, .int (ii 1)), (2, .int (ii (v / 5))), (0, .ref (sd 0)), (1, .int (ii v))]) hx hb dX3_decodes_22 hl (k := 1) rfl (by decide) rfl (fun ls hl => ?_)
    refine lv_goto (tgt := 4) hx hb dX3_decodes_25 (by decide) ?_
    refine lv_iload_n hx hb dX3_decodes_4 rfl (lv_at hl 0 rfl) ?_
    refine li_iconst hx hb dX3_decodes_5 ?_
    refine li_icmp_ge (tgt := 28) hx hb ⟨by decide, by decide⟩ ⟨by decide, by decide⟩ dX3_decodes_6 (by decide) (fun c6 => ?_) (fun c6 => ?_)
    · exact absurd c6 (by decide)
    · refine lv_aload_n hx hb dX3_decodes_9 rfl (lv_at hl 2 rfl) ?_
      refine va_get (D := G) (fs := [.ref (sd 1), .ref (sd 2)]) (ci := 2) (v := .ref (sd 1)) (C := RX3) (T := TX3) (N := 2) hx hb hts in_X3 hown hK hP (si 0) h1_0 rfl 0 (by decide) (hts _ q654) (fun _ h9 => h9) rfl dX3_decodes_10 ?_
      refine lv_iload_n hx hb dX3_decodes_13 rfl (lv_at hl 0 rfl) ?_
      refine lv_iload_n hx hb dX3_decodes_14 rfl (lv_at hl 1 rfl) ?_
      refine li_iconst hx hb dX3_decodes_15 ?_
      refine li_rem hx hb (by omega) (by omega) (by omega) (by omega) dX3_decodes_16 ?_
      refine li_iast (g := ug w 0 (v % 5)) (W2 := (ws1_.set (si 1) (sd 1, .inl (ty 0, 3, .inl (fa (ug (ug w 0 (v % 5)) 1 ((v / 5) % 5))))))) hx hb hK hP hD hS (si 1) 0 h1_1 rfl (by decide) (by decide) (by decide) rfl dX3_decodes_17 (fun H locs hP hD hS => ?_)
      obtain ⟨ws2_, hws2_⟩ : ∃ z, z = (ws1_.set (si 1) (sd 1, .inl (ty 0, 3, .inl (fa (ug (ug w 0 (v % 5)) 1 ((v / 5) % 5)))))) := ⟨_, rfl⟩
      replace hP : va_P G gcl ws2_ H := by rw [hws2_]; exact hP
      replace hD : va_D A ws2_ := by rw [hws2_]; exact hD
      have h2_0 : ws2_[(si 0)]? = some (sd 0, .inr (2, [.ref (sd 1), .ref (sd 2)])) := by rw [hws2_]; exact gs_n n_si1_si0 h1_0
      have h2_1 : ws2_[(si 1)]? = some (sd 1, .inl (ty 0, 3, .inl (fa (ug (ug w 0 (v % 5)) 1 ((v / 5) % 5))))) := by rw [hws2_]; exact gs_s h1_1
      have h2_2 : ws2_[(si 2)]? = some (sd 2, .inl (ty 0, 2, .inl (fa q))) := by rw [hws2_]; exact gs_n n_si1_si2 h1_2
      refine lv_iload_n hx hb dX3_decodes_18 rfl (lv_at hl 1 rfl) ?_
      refine li_iconst hx hb dX3_decodes_19 ?_
      refine li_div hx hb (by omega) (by omega) (by omega) (by omega) dX3_decodes_20 ?_
      refine lv_istore_n (lv' := [(2, .int (ii ((v / 5) / 5))), (3, .int (ii 1)), (0, .ref (sd 0)), (1, .int (ii v))]) hx hb dX3_decodes_21 rfl hl (by decide) rfl (fun ls hl => ?_)
      refine li_iinc (a := 1) (lv' := [(3, .int (ii 2)), (2, .int (ii ((v / 5) / 5))), (0, .ref (sd 0)), (1, .int (ii v))]) hx hb dX3_decodes_22 hl (k := 1) rfl (by decide) rfl (fun ls hl => ?_)
      refine lv_goto (tgt := 4) hx hb dX3_decodes_25 (by decide) ?_
      refine lv_iload_n hx hb dX3_decodes_4 rfl (lv_at hl 0 rfl) ?_
      refine li_iconst hx hb dX3_decodes_5 ?_
      refine li_icmp_ge (tgt := 28) hx hb ⟨by decide, by decide⟩ ⟨by decide, by decide⟩ dX3_decodes_6 (by decide) (fun c6 => ?_) (fun c6 => ?_)
      · exact absurd c6 (by decide)
      · refine lv_aload_n hx hb dX3_decodes_9 rfl (lv_at hl 2 rfl) ?_
        refine va_get (D := G) (fs := [.ref (sd 1), .ref (sd 2)]) (ci := 2) (v := .ref (sd 1)) (C := RX3) (T := TX3) (N := 2) hx hb hts in_X3 hown hK hP (si 0) h2_0 rfl 0 (by decide) (hts _ q654) (fun _ h9 => h9) rfl dX3_decodes_10 ?_
        refine lv_iload_n hx hb dX3_decodes_13 rfl (lv_at hl 0 rfl) ?_
        refine lv_iload_n hx hb dX3_decodes_14 rfl (lv_at hl 1 rfl) ?_
        refine li_iconst hx hb dX3_decodes_15 ?_
        refine li_rem hx hb (by omega) (by omega) (by omega) (by omega) dX3_decodes_16 ?_
        refine li_iast (g := ug (ug w 0 (v % 5)) 1 ((v / 5) % 5)) (W2 := (ws2_.set (si 1) (sd 1, .inl (ty 0, 3, .inl (fa (ug (ug (ug w 0 (v % 5)) 1 ((v / 5) % 5)) 2 (((v / 5) / 5) % 5))))))) hx hb hK hP hD hS (si 1) 0 h2_1 rfl (by decide) (by decide) (by decide) rfl dX3_decodes_17 (fun H locs hP hD hS => ?_)
        obtain ⟨ws3_, hws3_⟩ : ∃ z, z = (ws2_.set (si 1) (sd 1, .inl (ty 0, 3, .inl (fa (ug (ug (ug w 0 (v % 5)) 1 ((v / 5) % 5)) 2 (((v / 5) / 5) % 5)))))) := ⟨_, rfl⟩
        replace hP : va_P G gcl ws3_ H := by rw [hws3_]; exact hP
        replace hD : va_D A ws3_ := by rw [hws3_]; exact hD
        have h3_0 : ws3_[(si 0)]? = some (sd 0, .inr (2, [.ref (sd 1), .ref (sd 2)])) := by rw [hws3_]; exact gs_n n_si1_si0 h2_0
        have h3_1 : ws3_[(si 1)]? = some (sd 1, .inl (ty 0, 3, .inl (fa (ug (ug (ug w 0 (v % 5)) 1 ((v / 5) % 5)) 2 (((v / 5) / 5) % 5))))) := by rw [hws3_]; exact gs_s h2_1
        have h3_2 : ws3_[(si 2)]? = some (sd 2, .inl (ty 0, 2, .inl (fa q))) := by rw [hws3_]; exact gs_n n_si1_si2 h2_2
        refine lv_iload_n hx hb dX3_decodes_18 rfl (lv_at hl 1 rfl) ?_
        refine li_iconst hx hb dX3_decodes_19 ?_
        refine li_div hx hb (by omega) (by omega) (by omega) (by omega) dX3_decodes_20 ?_
        refine lv_istore_n (lv' := [(2, .int (ii (((v / 5) / 5) / 5))), (3, .int (ii 2)), (0, .ref (sd 0)), (1, .int (ii v))]) hx hb dX3_decodes_21 rfl hl (by decide) rfl (fun ls hl => ?_)
        refine li_iinc (a := 2) (lv' := [(3, .int (ii 3)), (2, .int (ii (((v / 5) / 5) / 5))), (0, .ref (sd 0)), (1, .int (ii v))]) hx hb dX3_decodes_22 hl (k := 1) rfl (by decide) rfl (fun ls hl => ?_)
        refine lv_goto (tgt := 4) hx hb dX3_decodes_25 (by decide) ?_
        refine lv_iload_n hx hb dX3_decodes_4 rfl (lv_at hl 0 rfl) ?_
        refine li_iconst hx hb dX3_decodes_5 ?_
        refine li_icmp_ge (tgt := 28) hx hb ⟨by decide, by decide⟩ ⟨by decide, by decide⟩ dX3_decodes_6 (by decide) (fun c6 => ?_) (fun c6 => ?_)
        · refine li_iconst hx hb dX3_decodes_28 ?_
          refine lv_istore_n (lv' := [(3, .int (ii 0)), (2, .int (ii (((v / 5) / 5) / 5))), (0, .ref (sd 0)), (1, .int (ii v))]) hx hb dX3_decodes_29 rfl hl (by decide) rfl (fun ls hl => ?_)
          refine lv_iload_n hx hb dX3_decodes_30 rfl (lv_at hl 0 rfl) ?_
          refine li_iconst hx hb dX3_decodes_31 ?_
          refine li_icmp_ge (tgt := 56) hx hb ⟨by decide, by decide⟩ ⟨by decide, by decide⟩ dX3_decodes_32 (by decide) (fun c32 => ?_) (fun c32 => ?_)
          · exact absurd c32 (by decide)
          · refine lv_aload_n hx hb dX3_decodes_35 rfl (lv_at hl 2 rfl) ?_
            refine va_get (D := G) (fs := [.ref (sd 1), .ref (sd 2)]) (ci := 2) (v := .ref (sd 2)) (C := RX3) (T := TX3) (N := 2) hx hb hts in_X3 hown hK hP (si 0) h3_0 rfl 1 (by decide) (hts _ q658) (fun _ h9 => h9) rfl dX3_decodes_36 ?_
            refine lv_iload_n hx hb dX3_decodes_39 rfl (lv_at hl 0 rfl) ?_
            refine lv_iload_n hx hb dX3_decodes_40 rfl (lv_at hl 1 rfl) ?_
            refine li_bipush hx hb dX3_decodes_41 (by decide) ?_
            refine li_rem hx hb (by omega) (by omega) (by omega) (by omega) dX3_decodes_43 ?_
            refine li_iast (g := q) (W2 := (ws3_.set (si 2) (sd 2, .inl (ty 0, 2, .inl (fa (ug q 0 ((((v / 5) / 5) / 5) % 6))))))) hx hb hK hP hD hS (si 2) 0 h3_2 rfl (by decide) (by decide) (by decide) rfl dX3_decodes_44 (fun H locs hP hD hS => ?_)
            obtain ⟨ws4_, hws4_⟩ : ∃ z, z = (ws3_.set (si 2) (sd 2, .inl (ty 0, 2, .inl (fa (ug q 0 ((((v / 5) / 5) / 5) % 6)))))) := ⟨_, rfl⟩
            replace hP : va_P G gcl ws4_ H := by rw [hws4_]; exact hP
            replace hD : va_D A ws4_ := by rw [hws4_]; exact hD
            have h4_0 : ws4_[(si 0)]? = some (sd 0, .inr (2, [.ref (sd 1), .ref (sd 2)])) := by rw [hws4_]; exact gs_n n_si2_si0 h3_0
            have h4_1 : ws4_[(si 1)]? = some (sd 1, .inl (ty 0, 3, .inl (fa (ug (ug (ug w 0 (v % 5)) 1 ((v / 5) % 5)) 2 (((v / 5) / 5) % 5))))) := by rw [hws4_]; exact gs_n n_si2_si1 h3_1
            have h4_2 : ws4_[(si 2)]? = some (sd 2, .inl (ty 0, 2, .inl (fa (ug q 0 ((((v / 5) / 5) / 5) % 6))))) := by rw [hws4_]; exact gs_s h3_2
            refine lv_iload_n hx hb dX3_decodes_45 rfl (lv_at hl 1 rfl) ?_
            refine li_bipush hx hb dX3_decodes_46 (by decide) ?_
            refine li_div hx hb (by omega) (by omega) (by omega) (by omega) dX3_decodes_48 ?_
            refine lv_istore_n (lv' := [(2, .int (ii ((((v / 5) / 5) / 5) / 6))), (3, .int (ii 0)), (0, .ref (sd 0)), (1, .int (ii v))]) hx hb dX3_decodes_49 rfl hl (by decide) rfl (fun ls hl => ?_)
            refine li_iinc (a := 0) (lv' := [(3, .int (ii 1)), (2, .int (ii ((((v / 5) / 5) / 5) / 6))), (0, .ref (sd 0)), (1, .int (ii v))]) hx hb dX3_decodes_50 hl (k := 1) rfl (by decide) rfl (fun ls hl => ?_)
            refine lv_goto (tgt := 30) hx hb dX3_decodes_53 (by decide) ?_
            refine lv_iload_n hx hb dX3_decodes_30 rfl (lv_at hl 0 rfl) ?_
            refine li_iconst hx hb dX3_decodes_31 ?_
            refine li_icmp_ge (tgt := 56) hx hb ⟨by decide, by decide⟩ ⟨by decide, by decide⟩ dX3_decodes_32 (by decide) (fun c32 => ?_) (fun c32 => ?_)
            · exact absurd c32 (by decide)
            · refine lv_aload_n hx hb dX3_decodes_35 rfl (lv_at hl 2 rfl) ?_
              refine va_get (D := G) (fs := [.ref (sd 1), .ref (sd 2)]) (ci := 2) (v := .ref (sd 2)) (C := RX3) (T := TX3) (N := 2) hx hb hts in_X3 hown hK hP (si 0) h4_0 rfl 1 (by decide) (hts _ q658) (fun _ h9 => h9) rfl dX3_decodes_36 ?_
              refine lv_iload_n hx hb dX3_decodes_39 rfl (lv_at hl 0 rfl) ?_
              refine lv_iload_n hx hb dX3_decodes_40 rfl (lv_at hl 1 rfl) ?_
              refine li_bipush hx hb dX3_decodes_41 (by decide) ?_
              refine li_rem hx hb (by omega) (by omega) (by omega) (by omega) dX3_decodes_43 ?_
              refine li_iast (g := ug q 0 ((((v / 5) / 5) / 5) % 6)) (W2 := (ws4_.set (si 2) (sd 2, .inl (ty 0, 2, .inl (fa (ug (ug q 0 ((((v / 5) / 5) / 5) % 6)) 1 (((((v / 5) / 5) / 5) / 6) % 6))))))) hx hb hK hP hD hS (si 2) 0 h4_2 rfl (by decide) (by decide) (by decide) rfl dX3_decodes_44 (fun H locs hP hD hS => ?_)
              obtain ⟨ws5_, hws5_⟩ : ∃ z, z = (ws4_.set (si 2) (sd 2, .inl (ty 0, 2, .inl (fa (ug (ug q 0 ((((v / 5) / 5) / 5) % 6)) 1 (((((v / 5) / 5) / 5) / 6) % 6)))))) := ⟨_, rfl⟩
              replace hP : va_P G gcl ws5_ H := by rw [hws5_]; exact hP
              replace hD : va_D A ws5_ := by rw [hws5_]; exact hD
              have h5_0 : ws5_[(si 0)]? = some (sd 0, .inr (2, [.ref (sd 1), .ref (sd 2)])) := by rw [hws5_]; exact gs_n n_si2_si0 h4_0
              have h5_1 : ws5_[(si 1)]? = some (sd 1, .inl (ty 0, 3, .inl (fa (ug (ug (ug w 0 (v % 5)) 1 ((v / 5) % 5)) 2 (((v / 5) / 5) % 5))))) := by rw [hws5_]; exact gs_n n_si2_si1 h4_1
              have h5_2 : ws5_[(si 2)]? = some (sd 2, .inl (ty 0, 2, .inl (fa (ug (ug q 0 ((((v / 5) / 5) / 5) % 6)) 1 (((((v / 5) / 5) / 5) / 6) % 6))))) := by rw [hws5_]; exact gs_s h4_2
              refine lv_iload_n hx hb dX3_decodes_45 rfl (lv_at hl 1 rfl) ?_
              refine li_bipush hx hb dX3_decodes_46 (by decide) ?_
              refine li_div hx hb (by omega) (by omega) (by omega) (by omega) dX3_decodes_48 ?_
              refine lv_istore_n (lv' := [(2, .int (ii (((((v / 5) / 5) / 5) / 6) / 6))), (3, .int (ii 1)), (0, .ref (sd 0)), (1, .int (ii v))]) hx hb dX3_decodes_49 rfl hl (by decide) rfl (fun ls hl => ?_)
              refine li_iinc (a := 1) (lv' := [(3, .int (ii 2)), (2, .int (ii (((((v / 5) / 5) / 5) / 6) / 6))), (0, .ref (sd 0)), (1, .int (ii v))]) hx hb dX3_decodes_50 hl (k := 1) rfl (by decide) rfl (fun ls hl => ?_)
              refine lv_goto (tgt := 30) hx hb dX3_decodes_53 (by decide) ?_
              refine lv_iload_n hx hb dX3_decodes_30 rfl (lv_at hl 0 rfl) ?_
              refine li_iconst hx hb dX3_decodes_31 ?_
              refine li_icmp_ge (tgt := 56) hx hb ⟨by decide, by decide⟩ ⟨by decide, by decide⟩ dX3_decodes_32 (by decide) (fun c32 => ?_) (fun c32 => ?_)
              · exact eMv hQ hx hb hr hlk hP hD hS (Nat.le_of_ble_eq_true rfl) (Nat.le_of_ble_eq_true rfl) dX3_decodes_56 (⟨rfl, by rw [hws5_, hws4_, hws3_, hws2_, hws1_]; simp only [List.set_set, dcw, dcq, (show v / 5 / 5 = v / 25 by omega), (show v / 25 / 5 = v / 125 by omega), (show v / 125 / 6 = v / 750 by omega)]⟩)
              · exact absurd c32 (by decide)
        · exact absurd c6 (by decide)
set_option maxHeartbeats 4000000 in
theorem m_takesS (l : Launch) (G : va_G) (ty : Nat → ClassId) (ws : va_W) (si sd : Nat → Nat) (w q : Int → Int) (ti td : Nat → Nat) (w2 q2 : Int → Int)  (hSp : spotAt ty ws si sd w q) (hT : spotAt ty ws ti td w2 q2) (n_si1_si0 : (si 1) ≠ (si 0)) (n_si1_si2 : (si 1) ≠ (si 2)) (n_si1_ti0 : (si 1) ≠ (ti 0)) (n_si1_ti1 : (si 1) ≠ (ti 1)) (n_si1_ti2 : (si 1) ≠ (ti 2)) (n_si2_si0 : (si 2) ≠ (si 0)) (n_si2_si1 : (si 2) ≠ (si 1)) (n_si2_ti0 : (si 2) ≠ (ti 0)) (n_si2_ti1 : (si 2) ≠ (ti 1)) (n_si2_ti2 : (si 2) ≠ (ti 2)) : cM l yX3_takes (ws_ yX3_takes cX3_takes 2 none) (rm4 1 0 0 59) G ty (ws) [.ref (sd 0), .ref (td 0)] 0 0 (fun r W' => r = none ∧ W' = (ws.set (si 1) (sd 1, .inl (ty 0, 3, .inl (fa (cp w2 w 3))))).set (si 2) (sd 2, .inl (ty 0, 2, .inl (fa (cp q2 q 2))))) := by
  refine cM.of (by decide) (Nat.le_of_ble_eq_true rfl) ?_
  intro p e s m args below meth c A Q H locs hQ hx hb hr hml hown hlk hname hts hK hP hD hS hA hX ls hl
  have hl : lv_has ls 2 [(0, .ref (sd 0)), (1, .ref (td 0))] := hl
  refine lv_aload_n hx hb dX3_takes_0 rfl (lv_at hl 1 rfl) ?_
  refine va_get (D := G) (fs := [.ref (td 1), .ref (td 2)]) (ci := 2) (v := .ref (td 1)) (C := RX3) (T := TX3) (N := 2) hx hb hts in_X3 hown hK hP (ti 0) hT.1 rfl 0 (by decide) (hts _ q654) (fun _ h9 => h9) rfl dX3_takes_1 ?_
  refine li_iconst hx hb dX3_takes_4 ?_
  refine lv_aload_n hx hb dX3_takes_5 rfl (lv_at hl 0 rfl) ?_
  refine va_get (D := G) (fs := [.ref (sd 1), .ref (sd 2)]) (ci := 2) (v := .ref (sd 1)) (C := RX3) (T := TX3) (N := 2) hx hb hts in_X3 hown hK hP (si 0) hSp.1 rfl 0 (by decide) (hts _ q654) (fun _ h9 => h9) rfl dX3_takes_6 ?_
  refine li_iconst hx hb dX3_takes_9 ?_
  refine li_iconst hx hb dX3_takes_10 ?_
  refine li_copy (k := 3) (g := w2) (h := w) (W2 := (ws.set (si 1) (sd 1, .inl (ty 0, 3, .inl (fa (cp w2 w 3)))))) hx hb (hml.trans hl.1.symm) hown (hts _ q137) (hts _ q132) (hts _ q131) (hts _ q88) hK hP hD hS (ti 1) (si 1) 0 hT.2.1 hSp.2.1 rfl rfl (by decide) (by decide) (by decide) (fun _ => rfl) rfl (Nat.le_of_ble_eq_true rfl) (Nat.le_of_ble_eq_true rfl) dX3_takes_11 (fun H locs hP hD hS => ?_)
  obtain ⟨ws1_, hws1_⟩ : ∃ z, z = (ws.set (si 1) (sd 1, .inl (ty 0, 3, .inl (fa (cp w2 w 3))))) := ⟨_, rfl⟩
  replace hP : va_P G gcl ws1_ H := by rw [hws1_]; exact hP
  replace hD : va_D A ws1_ := by rw [hws1_]; exact hD
  have h1_0 : ws1_[(si 0)]? = some (sd 0, .inr (2, [.ref (sd 1), .ref (sd 2)])) := by rw [hws1_]; exact gs_n n_si1_si0 hSp.1
  have h1_1 : ws1_[(si 1)]? = some (sd 1, .inl (ty 0, 3, .inl (fa (cp w2 w 3)))) := by rw [hws1_]; exact gs_s hSp.2.1
  have h1_2 : ws1_[(si 2)]? = some (sd 2, .inl (ty 0, 2, .inl (fa q))) := by rw [hws1_]; exact gs_n n_si1_si2 hSp.2.2
  have h1_3 : ws1_[(ti 0)]? = some (td 0, .inr (2, [.ref (td 1), .ref (td 2)])) := by rw [hws1_]; exact gs_n n_si1_ti0 hT.1
  have h1_4 : ws1_[(ti 1)]? = some (td 1, .inl (ty 0, 3, .inl (fa w2))) := by rw [hws1_]; exact gs_n n_si1_ti1 hT.2.1
  have h1_5 : ws1_[(ti 2)]? = some (td 2, .inl (ty 0, 2, .inl (fa q2))) := by rw [hws1_]; exact gs_n n_si1_ti2 hT.2.2
  refine lv_aload_n hx hb dX3_takes_14 rfl (lv_at hl 1 rfl) ?_
  refine va_get (D := G) (fs := [.ref (td 1), .ref (td 2)]) (ci := 2) (v := .ref (td 2)) (C := RX3) (T := TX3) (N := 2) hx hb hts in_X3 hown hK hP (ti 0) h1_3 rfl 1 (by decide) (hts _ q658) (fun _ h9 => h9) rfl dX3_takes_15 ?_
  refine li_iconst hx hb dX3_takes_18 ?_
  refine lv_aload_n hx hb dX3_takes_19 rfl (lv_at hl 0 rfl) ?_
  refine va_get (D := G) (fs := [.ref (sd 1), .ref (sd 2)]) (ci := 2) (v := .ref (sd 2)) (C := RX3) (T := TX3) (N := 2) hx hb hts in_X3 hown hK hP (si 0) h1_0 rfl 1 (by decide) (hts _ q658) (fun _ h9 => h9) rfl dX3_takes_20 ?_
  refine li_iconst hx hb dX3_takes_23 ?_
  refine li_iconst hx hb dX3_takes_24 ?_
  refine li_copy (k := 2) (g := q2) (h := q) (W2 := (ws1_.set (si 2) (sd 2, .inl (ty 0, 2, .inl (fa (cp q2 q 2)))))) hx hb (hml.trans hl.1.symm) hown (hts _ q137) (hts _ q132) (hts _ q131) (hts _ q88) hK hP hD hS (ti 2) (si 2) 0 h1_5 h1_2 rfl rfl (by decide) (by decide) (by decide) (fun _ => rfl) rfl (Nat.le_of_ble_eq_true rfl) (Nat.le_of_ble_eq_true rfl) dX3_takes_25 (fun H locs hP hD hS => ?_)
  obtain ⟨ws2_, hws2_⟩ : ∃ z, z = (ws1_.set (si 2) (sd 2, .inl (ty 0, 2, .inl (fa (cp q2 q 2))))) := ⟨_, rfl⟩
  replace hP : va_P G gcl ws2_ H := by rw [hws2_]; exact hP
  replace hD : va_D A ws2_ := by rw [hws2_]; exact hD
  have h2_0 : ws2_[(si 0)]? = some (sd 0, .inr (2, [.ref (sd 1), .ref (sd 2)])) := by rw [hws2_]; exact gs_n n_si2_si0 h1_0
  have h2_1 : ws2_[(si 1)]? = some (sd 1, .inl (ty 0, 3, .inl (fa (cp w2 w 3)))) := by rw [hws2_]; exact gs_n n_si2_si1 h1_1
  have h2_2 : ws2_[(si 2)]? = some (sd 2, .inl (ty 0, 2, .inl (fa (cp q2 q 2)))) := by rw [hws2_]; exact gs_s h1_2
  have h2_3 : ws2_[(ti 0)]? = some (td 0, .inr (2, [.ref (td 1), .ref (td 2)])) := by rw [hws2_]; exact gs_n n_si2_ti0 h1_3
  have h2_4 : ws2_[(ti 1)]? = some (td 1, .inl (ty 0, 3, .inl (fa w2))) := by rw [hws2_]; exact gs_n n_si2_ti1 h1_4
  have h2_5 : ws2_[(ti 2)]? = some (td 2, .inl (ty 0, 2, .inl (fa q2))) := by rw [hws2_]; exact gs_n n_si2_ti2 h1_5
  exact eMv hQ hx hb hr hlk hP hD hS (Nat.le_of_ble_eq_true rfl) (Nat.le_of_ble_eq_true rfl) dX3_takes_28 (⟨rfl, by rw [hws2_, hws1_]⟩)
set_option maxHeartbeats 4000000 in
theorem m_tells_5 (l : Launch) (G : va_G) (ty : Nat → ClassId) (ws : va_W) (mi md : Nat) (st rp fr to : Int) (a b c0 d0 : Int) (hM : moveAt ws 4 mi md st rp fr to) : cM l yX5_tells (ws_ yX5_tells cX5_tells 5 (some (.object "DownRope$Move"))) (rm4 0 0 0 0) G ty (ws) [.ref md, .int (ii a), .int (ii b), .int (ii c0), .int (ii d0)] 0 0 (fun r W' => r = some (.ref md) ∧ W' = ws.set mi (md, .inr (4, [.int (ii a), .int (ii b), .int (ii c0), .int (ii d0)]))) := by
  refine cM.of (by decide) (Nat.le_of_ble_eq_true rfl) ?_
  intro p e s m args below meth c A Q H locs hQ hx hb hr hml hown hlk hname hts hK hP hD hS hA hX ls hl
  have hl : lv_has ls 5 [(0, .ref md), (1, .int (ii a)), (2, .int (ii b)), (3, .int (ii c0)), (4, .int (ii d0))] := hl
  refine lv_aload_n hx hb dX5_tells_0 rfl (lv_at hl 0 rfl) ?_
  refine lv_iload_n hx hb dX5_tells_1 rfl (lv_at hl 1 rfl) ?_
  refine va_put (D := G) (fs := [.int (ii st), .int (ii rp), .int (ii fr), .int (ii to)]) (ci := 4) (v := .int (ii a)) (ty := .int) (C := RX5) (T := TX5) (N := 4) hx hb hts in_X5 tyX5 tyX5_ok nmX5 hown hK hP hD hS mi hM rfl 0 (by decide) (hts _ q861) (fun _ h9 => h9) rfl (tyX5_ok 0 (by decide)) rfl rfl (Nat.le_of_ble_eq_true rfl) dX5_tells_2 (fun H locs hP hD hS => ?_)
  obtain ⟨ws1_, hws1_⟩ : ∃ z, z = (ws.set mi (md, .inr (4, [.int (ii a), .int (ii rp), .int (ii fr), .int (ii to)]))) := ⟨_, rfl⟩
  replace hP : va_P G gcl ws1_ H := by rw [hws1_]; exact hP
  replace hD : va_D A ws1_ := by rw [hws1_]; exact hD
  have h1_0 : ws1_[mi]? = some (md, .inr (4, [.int (ii a), .int (ii rp), .int (ii fr), .int (ii to)])) := by rw [hws1_]; exact gs_s hM
  refine lv_aload_n hx hb dX5_tells_5 rfl (lv_at hl 0 rfl) ?_
  refine lv_iload_n hx hb dX5_tells_6 rfl (lv_at hl 2 rfl) ?_
  refine va_put (D := G) (fs := [.int (ii a), .int (ii rp), .int (ii fr), .int (ii to)]) (ci := 4) (v := .int (ii b)) (ty := .int) (C := RX5) (T := TX5) (N := 4) hx hb hts in_X5 tyX5 tyX5_ok nmX5 hown hK hP hD hS mi h1_0 rfl 1 (by decide) (hts _ q874) (fun _ h9 => h9) rfl (tyX5_ok 1 (by decide)) rfl rfl (Nat.le_of_ble_eq_true rfl) dX5_tells_7 (fun H locs hP hD hS => ?_)
  obtain ⟨ws2_, hws2_⟩ : ∃ z, z = (ws1_.set mi (md, .inr (4, [.int (ii a), .int (ii b), .int (ii fr), .int (ii to)]))) := ⟨_, rfl⟩
  replace hP : va_P G gcl ws2_ H := by rw [hws2_]; exact hP
  replace hD : va_D A ws2_ := by rw [hws2_]; exact hD
  have h2_0 : ws2_[mi]? = some (md, .inr (4, [.int (ii a), .int (ii b), .int (ii fr), .int (ii to)])) := by rw [hws2_]; exact gs_s h1_0
  refine lv_aload_n hx hb dX5_tells_10 rfl (lv_at hl 0 rfl) ?_
  refine lv_iload_n hx hb dX5_tells_11 rfl (lv_at hl 3 rfl) ?_
  refine va_put (D := G) (fs := [.int (ii a), .int (ii b), .int (ii fr), .int (ii to)]) (ci := 4) (v := .int (ii c0)) (ty := .int) (C := RX5) (T := TX5) (N := 4) hx hb hts in_X5 tyX5 tyX5_ok nmX5 hown hK hP hD hS mi h2_0 rfl 2 (by decide) (hts _ q889) (fun _ h9 => h9) rfl (tyX5_ok 2 (by decide)) rfl rfl (Nat.le_of_ble_eq_true rfl) dX5_tells_12 (fun H locs hP hD hS => ?_)
  obtain ⟨ws3_, hws3_⟩ : ∃ z, z = (ws2_.set mi (md, .inr (4, [.int (ii a), .int (ii b), .int (ii c0), .int (ii to)]))) := ⟨_, rfl⟩
  replace hP : va_P G gcl ws3_ H := by rw [hws3_]; exact hP
  replace hD : va_D A ws3_ := by rw [hws3_]; exact hD
  have h3_0 : ws3_[mi]? = some (md, .inr (4, [.int (ii a), .int (ii b), .int (ii c0), .int (ii to)])) := by rw [hws3_]; exact gs_s h2_0
  refine lv_aload_n hx hb dX5_tells_15 rfl (lv_at hl 0 rfl) ?_
  refine lv_iload hx hb dX5_tells_16 (lv_at hl 4 rfl) ?_
  refine va_put (D := G) (fs := [.int (ii a), .int (ii b), .int (ii c0), .int (ii to)]) (ci := 4) (v := .int (ii d0)) (ty := .int) (C := RX5) (T := TX5) (N := 4) hx hb hts in_X5 tyX5 tyX5_ok nmX5 hown hK hP hD hS mi h3_0 rfl 3 (by decide) (hts _ q900) (fun _ h9 => h9) rfl (tyX5_ok 3 (by decide)) rfl rfl (Nat.le_of_ble_eq_true rfl) dX5_tells_18 (fun H locs hP hD hS => ?_)
  obtain ⟨ws4_, hws4_⟩ : ∃ z, z = (ws3_.set mi (md, .inr (4, [.int (ii a), .int (ii b), .int (ii c0), .int (ii d0)]))) := ⟨_, rfl⟩
  replace hP : va_P G gcl ws4_ H := by rw [hws4_]; exact hP
  replace hD : va_D A ws4_ := by rw [hws4_]; exact hD
  have h4_0 : ws4_[mi]? = some (md, .inr (4, [.int (ii a), .int (ii b), .int (ii c0), .int (ii d0)])) := by rw [hws4_]; exact gs_s h3_0
  refine lv_aload_n hx hb dX5_tells_21 rfl (lv_at hl 0 rfl) ?_
  exact eMa hQ hx hb hr (.inl ⟨_, rfl⟩) (.inr ⟨_, rfl⟩) hlk hP hD hS (Nat.le_of_ble_eq_true rfl) (Nat.le_of_ble_eq_true rfl) dX5_tells_22 (⟨rfl, by rw [hws4_, hws3_, hws2_, hws1_]; simp only [List.set_set]⟩)
set_option maxHeartbeats 4000000 in
theorem m_tells_6 (l : Launch) (G : va_G) (ty : Nat → ClassId) (ws : va_W) (mi md : Nat) (st rp fr to : Int) (a b c0 d0 : Int) (hM : moveAt ws 5 mi md st rp fr to) : cM l yX5_tells (ws_ yX5_tells cX5_tells 5 (some (.object "DownRope$Move"))) (rm4 0 0 0 0) G ty (ws) [.ref md, .int (ii a), .int (ii b), .int (ii c0), .int (ii d0)] 0 0 (fun r W' => r = some (.ref md) ∧ W' = ws.set mi (md, .inr (5, [.int (ii a), .int (ii b), .int (ii c0), .int (ii d0)]))) := by
  refine cM.of (by decide) (Nat.le_of_ble_eq_true rfl) ?_
  intro p e s m args below meth c A Q H locs hQ hx hb hr hml hown hlk hname hts hK hP hD hS hA hX ls hl
  have hl : lv_has ls 5 [(0, .ref md), (1, .int (ii a)), (2, .int (ii b)), (3, .int (ii c0)), (4, .int (ii d0))] := hl
  refine lv_aload_n hx hb dX5_tells_0 rfl (lv_at hl 0 rfl) ?_
  refine lv_iload_n hx hb dX5_tells_1 rfl (lv_at hl 1 rfl) ?_
  refine va_put (D := G) (fs := [.int (ii st), .int (ii rp), .int (ii fr), .int (ii to)]) (ci := 5) (v := .int (ii a)) (ty := .int) (C := RX6) (T := TX6) (N := 4) hx hb hts in_X6 tyX6 tyX6_ok nmX6 hown hK hP hD hS mi hM rfl 0 (by decide) (hts _ q861) (fun _ h9 => h9) rfl (tyX6_ok 0 (by decide)) rfl rfl (Nat.le_of_ble_eq_true rfl) dX5_tells_2 (fun H locs hP hD hS => ?_)
  obtain ⟨ws1_, hws1_⟩ : ∃ z, z = (ws.set mi (md, .inr (5, [.int (ii a), .int (ii rp), .int (ii fr), .int (ii to)]))) := ⟨_, rfl⟩
  replace hP : va_P G gcl ws1_ H := by rw [hws1_]; exact hP
  replace hD : va_D A ws1_ := by rw [hws1_]; exact hD
  have h1_0 : ws1_[mi]? = some (md, .inr (5, [.int (ii a), .int (ii rp), .int (ii fr), .int (ii to)])) := by rw [hws1_]; exact gs_s hM
  refine lv_aload_n hx hb dX5_tells_5 rfl (lv_at hl 0 rfl) ?_
  refine lv_iload_n hx hb dX5_tells_6 rfl (lv_at hl 2 rfl) ?_
  refine va_put (D := G) (fs := [.int (ii a), .int (ii rp), .int (ii fr), .int (ii to)]) (ci := 5) (v := .int (ii b)) (ty := .int) (C := RX6) (T := TX6) (N := 4) hx hb hts in_X6 tyX6 tyX6_ok nmX6 hown hK hP hD hS mi h1_0 rfl 1 (by decide) (hts _ q874) (fun _ h9 => h9) rfl (tyX6_ok 1 (by decide)) rfl rfl (Nat.le_of_ble_eq_true rfl) dX5_tells_7 (fun H locs hP hD hS => ?_)
  obtain ⟨ws2_, hws2_⟩ : ∃ z, z = (ws1_.set mi (md, .inr (5, [.int (ii a), .int (ii b), .int (ii fr), .int (ii to)]))) := ⟨_, rfl⟩
  replace hP : va_P G gcl ws2_ H := by rw [hws2_]; exact hP
  replace hD : va_D A ws2_ := by rw [hws2_]; exact hD
  have h2_0 : ws2_[mi]? = some (md, .inr (5, [.int (ii a), .int (ii b), .int (ii fr), .int (ii to)])) := by rw [hws2_]; exact gs_s h1_0
  refine lv_aload_n hx hb dX5_tells_10 rfl (lv_at hl 0 rfl) ?_
  refine lv_iload_n hx hb dX5_tells_11 rfl (lv_at hl 3 rfl) ?_
  refine va_put (D := G) (fs := [.int (ii a), .int (ii b), .int (ii fr), .int (ii to)]) (ci := 5) (v := .int (ii c0)) (ty := .int) (C := RX6) (T := TX6) (N := 4) hx hb hts in_X6 tyX6 tyX6_ok nmX6 hown hK hP hD hS mi h2_0 rfl 2 (by decide) (hts _ q889) (fun _ h9 => h9) rfl (tyX6_ok 2 (by decide)) rfl rfl (Nat.le_of_ble_eq_true rfl) dX5_tells_12 (fun H locs hP hD hS => ?_)
  obtain ⟨ws3_, hws3_⟩ : ∃ z, z = (ws2_.set mi (md, .inr (5, [.int (ii a), .int (ii b), .int (ii c0), .int (ii to)]))) := ⟨_, rfl⟩
  replace hP : va_P G gcl ws3_ H := by rw [hws3_]; exact hP
  replace hD : va_D A ws3_ := by rw [hws3_]; exact hD
  have h3_0 : ws3_[mi]? = some (md, .inr (5, [.int (ii a), .int (ii b), .int (ii c0), .int (ii to)])) := by rw [hws3_]; exact gs_s h2_0
  refine lv_aload_n hx hb dX5_tells_15 rfl (lv_at hl 0 rfl) ?_
  refine lv_iload hx hb dX5_tells_16 (lv_at hl 4 rfl) ?_
  refine va_put (D := G) (fs := [.int (ii a), .int (ii b), .int (ii c0), .int (ii to)]) (ci := 5) (v := .int (ii d0)) (ty := .int) (C := RX6) (T := TX6) (N := 4) hx hb hts in_X6 tyX6 tyX6_ok nmX6 hown hK hP hD hS mi h3_0 rfl 3 (by decide) (hts _ q900) (fun _ h9 => h9) rfl (tyX6_ok 3 (by decide)) rfl rfl (Nat.le_of_ble_eq_true rfl) dX5_tells_18 (fun H locs hP hD hS => ?_)
  obtain ⟨ws4_, hws4_⟩ : ∃ z, z = (ws3_.set mi (md, .inr (5, [.int (ii a), .int (ii b), .int (ii c0), .int (ii d0)]))) := ⟨_, rfl⟩
  replace hP : va_P G gcl ws4_ H := by rw [hws4_]; exact hP
  replace hD : va_D A ws4_ := by rw [hws4_]; exact hD
  have h4_0 : ws4_[mi]? = some (md, .inr (5, [.int (ii a), .int (ii b), .int (ii c0), .int (ii d0)])) := by rw [hws4_]; exact gs_s h3_0
  refine lv_aload_n hx hb dX5_tells_21 rfl (lv_at hl 0 rfl) ?_
  exact eMa hQ hx hb hr (.inl ⟨_, rfl⟩) (.inr ⟨_, rfl⟩) hlk hP hD hS (Nat.le_of_ble_eq_true rfl) (Nat.le_of_ble_eq_true rfl) dX5_tells_22 (⟨rfl, by rw [hws4_, hws3_, hws2_, hws1_]; simp only [List.set_set]⟩)
set_option maxHeartbeats 4000000 in
theorem m_tells_7 (l : Launch) (G : va_G) (ty : Nat → ClassId) (ws : va_W) (mi md : Nat) (st rp fr to : Int) (a b c0 d0 : Int) (hM : moveAt ws 6 mi md st rp fr to) : cM l yX5_tells (ws_ yX5_tells cX5_tells 5 (some (.object "DownRope$Move"))) (rm4 0 0 0 0) G ty (ws) [.ref md, .int (ii a), .int (ii b), .int (ii c0), .int (ii d0)] 0 0 (fun r W' => r = some (.ref md) ∧ W' = ws.set mi (md, .inr (6, [.int (ii a), .int (ii b), .int (ii c0), .int (ii d0)]))) := by
  refine cM.of (by decide) (Nat.le_of_ble_eq_true rfl) ?_
  intro p e s m args below meth c A Q H locs hQ hx hb hr hml hown hlk hname hts hK hP hD hS hA hX ls hl
  have hl : lv_has ls 5 [(0, .ref md), (1, .int (ii a)), (2, .int (ii b)), (3, .int (ii c0)), (4, .int (ii d0))] := hl
  refine lv_aload_n hx hb dX5_tells_0 rfl (lv_at hl 0 rfl) ?_
  refine lv_iload_n hx hb dX5_tells_1 rfl (lv_at hl 1 rfl) ?_
  refine va_put (D := G) (fs := [.int (ii st), .int (ii rp), .int (ii fr), .int (ii to)]) (ci := 6) (v := .int (ii a)) (ty := .int) (C := RX7) (T := TX7) (N := 4) hx hb hts in_X7 tyX7 tyX7_ok nmX7 hown hK hP hD hS mi hM rfl 0 (by decide) (hts _ q861) (fun _ h9 => h9) rfl (tyX7_ok 0 (by decide)) rfl rfl (Nat.le_of_ble_eq_true rfl) dX5_tells_2 (fun H locs hP hD hS => ?_)
  obtain ⟨ws1_, hws1_⟩ : ∃ z, z = (ws.set mi (md, .inr (6, [.int (ii a), .int (ii rp), .int (ii fr), .int (ii to)]))) := ⟨_, rfl⟩
  replace hP : va_P G gcl ws1_ H := by rw [hws1_]; exact hP
  replace hD : va_D A ws1_ := by rw [hws1_]; exact hD
  have h1_0 : ws1_[mi]? = some (md, .inr (6, [.int (ii a), .int (ii rp), .int (ii fr), .int (ii to)])) := by rw [hws1_]; exact gs_s hM
  refine lv_aload_n hx hb dX5_tells_5 rfl (lv_at hl 0 rfl) ?_
  refine lv_iload_n hx hb dX5_tells_6 rfl (lv_at hl 2 rfl) ?_
  refine va_put (D := G) (fs := [.int (ii a), .int (ii rp), .int (ii fr), .int (ii to)]) (ci := 6) (v := .int (ii b)) (ty := .int) (C := RX7) (T := TX7) (N := 4) hx hb hts in_X7 tyX7 tyX7_ok nmX7 hown hK hP hD hS mi h1_0 rfl 1 (by decide) (hts _ q874) (fun _ h9 => h9) rfl (tyX7_ok 1 (by decide)) rfl rfl (Nat.le_of_ble_eq_true rfl) dX5_tells_7 (fun H locs hP hD hS => ?_)
  obtain ⟨ws2_, hws2_⟩ : ∃ z, z = (ws1_.set mi (md, .inr (6, [.int (ii a), .int (ii b), .int (ii fr), .int (ii to)]))) := ⟨_, rfl⟩
  replace hP : va_P G gcl ws2_ H := by rw [hws2_]; exact hP
  replace hD : va_D A ws2_ := by rw [hws2_]; exact hD
  have h2_0 : ws2_[mi]? = some (md, .inr (6, [.int (ii a), .int (ii b), .int (ii fr), .int (ii to)])) := by rw [hws2_]; exact gs_s h1_0
  refine lv_aload_n hx hb dX5_tells_10 rfl (lv_at hl 0 rfl) ?_
  refine lv_iload_n hx hb dX5_tells_11 rfl (lv_at hl 3 rfl) ?_
  refine va_put (D := G) (fs := [.int (ii a), .int (ii b), .int (ii fr), .int (ii to)]) (ci := 6) (v := .int (ii c0)) (ty := .int) (C := RX7) (T := TX7) (N := 4) hx hb hts in_X7 tyX7 tyX7_ok nmX7 hown hK hP hD hS mi h2_0 rfl 2 (by decide) (hts _ q889) (fun _ h9 => h9) rfl (tyX7_ok 2 (by decide)) rfl rfl (Nat.le_of_ble_eq_true rfl) dX5_tells_12 (fun H locs hP hD hS => ?_)
  obtain ⟨ws3_, hws3_⟩ : ∃ z, z = (ws2_.set mi (md, .inr (6, [.int (ii a), .int (ii b), .int (ii c0), .int (ii to)]))) := ⟨_, rfl⟩
  replace hP : va_P G gcl ws3_ H := by rw [hws3_]; exact hP
  replace hD : va_D A ws3_ := by rw [hws3_]; exact hD
  have h3_0 : ws3_[mi]? = some (md, .inr (6, [.int (ii a), .int (ii b), .int (ii c0), .int (ii to)])) := by rw [hws3_]; exact gs_s h2_0
  refine lv_aload_n hx hb dX5_tells_15 rfl (lv_at hl 0 rfl) ?_
  refine lv_iload hx hb dX5_tells_16 (lv_at hl 4 rfl) ?_
  refine va_put (D := G) (fs := [.int (ii a), .int (ii b), .int (ii c0), .int (ii to)]) (ci := 6) (v := .int (ii d0)) (ty := .int) (C := RX7) (T := TX7) (N := 4) hx hb hts in_X7 tyX7 tyX7_ok nmX7 hown hK hP hD hS mi h3_0 rfl 3 (by decide) (hts _ q900) (fun _ h9 => h9) rfl (tyX7_ok 3 (by decide)) rfl rfl (Nat.le_of_ble_eq_true rfl) dX5_tells_18 (fun H locs hP hD hS => ?_)
  obtain ⟨ws4_, hws4_⟩ : ∃ z, z = (ws3_.set mi (md, .inr (6, [.int (ii a), .int (ii b), .int (ii c0), .int (ii d0)]))) := ⟨_, rfl⟩
  replace hP : va_P G gcl ws4_ H := by rw [hws4_]; exact hP
  replace hD : va_D A ws4_ := by rw [hws4_]; exact hD
  have h4_0 : ws4_[mi]? = some (md, .inr (6, [.int (ii a), .int (ii b), .int (ii c0), .int (ii d0)])) := by rw [hws4_]; exact gs_s h3_0
  refine lv_aload_n hx hb dX5_tells_21 rfl (lv_at hl 0 rfl) ?_
  exact eMa hQ hx hb hr (.inl ⟨_, rfl⟩) (.inr ⟨_, rfl⟩) hlk hP hD hS (Nat.le_of_ble_eq_true rfl) (Nat.le_of_ble_eq_true rfl) dX5_tells_22 (⟨rfl, by rw [hws4_, hws3_, hws2_, hws1_]; simp only [List.set_set]⟩)
set_option maxHeartbeats 4000000 in
theorem m_tells_8 (l : Launch) (G : va_G) (ty : Nat → ClassId) (ws : va_W) (mi md : Nat) (st rp fr to : Int) (a b c0 d0 : Int) (hM : moveAt ws 7 mi md st rp fr to) : cM l yX5_tells (ws_ yX5_tells cX5_tells 5 (some (.object "DownRope$Move"))) (rm4 0 0 0 0) G ty (ws) [.ref md, .int (ii a), .int (ii b), .int (ii c0), .int (ii d0)] 0 0 (fun r W' => r = some (.ref md) ∧ W' = ws.set mi (md, .inr (7, [.int (ii a), .int (ii b), .int (ii c0), .int (ii d0)]))) := by
  refine cM.of (by decide) (Nat.le_of_ble_eq_true rfl) ?_
  intro p e s m args below meth c A Q H locs hQ hx hb hr hml hown hlk hname hts hK hP hD hS hA hX ls hl
  have hl : lv_has ls 5 [(0, .ref md), (1, .int (ii a)), (2, .int (ii b)), (3, .int (ii c0)), (4, .int (ii d0))] := hl
  refine lv_aload_n hx hb dX5_tells_0 rfl (lv_at hl 0 rfl) ?_
  refine lv_iload_n hx hb dX5_tells_1 rfl (lv_at hl 1 rfl) ?_
  refine va_put (D := G) (fs := [.int (ii st), .int (ii rp), .int (ii fr), .int (ii to)]) (ci := 7) (v := .int (ii a)) (ty := .int) (C := RX8) (T := TX8) (N := 4) hx hb hts in_X8 tyX8 tyX8_ok nmX8 hown hK hP hD hS mi hM rfl 0 (by decide) (hts _ q861) (fun _ h9 => h9) rfl (tyX8_ok 0 (by decide)) rfl rfl (Nat.le_of_ble_eq_true rfl) dX5_tells_2 (fun H locs hP hD hS => ?_)
  obtain ⟨ws1_, hws1_⟩ : ∃ z, z = (ws.set mi (md, .inr (7, [.int (ii a), .int (ii rp), .int (ii fr), .int (ii to)]))) := ⟨_, rfl⟩
  replace hP : va_P G gcl ws1_ H := by rw [hws1_]; exact hP
  replace hD : va_D A ws1_ := by rw [hws1_]; exact hD
  have h1_0 : ws1_[mi]? = some (md, .inr (7, [.int (ii a), .int (ii rp), .int (ii fr), .int (ii to)])) := by rw [hws1_]; exact gs_s hM
  refine lv_aload_n hx hb dX5_tells_5 rfl (lv_at hl 0 rfl) ?_
  refine lv_iload_n hx hb dX5_tells_6 rfl (lv_at hl 2 rfl) ?_
  refine va_put (D := G) (fs := [.int (ii a), .int (ii rp), .int (ii fr), .int (ii to)]) (ci := 7) (v := .int (ii b)) (ty := .int) (C := RX8) (T := TX8) (N := 4) hx hb hts in_X8 tyX8 tyX8_ok nmX8 hown hK hP hD hS mi h1_0 rfl 1 (by decide) (hts _ q874) (fun _ h9 => h9) rfl (tyX8_ok 1 (by decide)) rfl rfl (Nat.le_of_ble_eq_true rfl) dX5_tells_7 (fun H locs hP hD hS => ?_)
  obtain ⟨ws2_, hws2_⟩ : ∃ z, z = (ws1_.set mi (md, .inr (7, [.int (ii a), .int (ii b), .int (ii fr), .int (ii to)]))) := ⟨_, rfl⟩
  replace hP : va_P G gcl ws2_ H := by rw [hws2_]; exact hP
  replace hD : va_D A ws2_ := by rw [hws2_]; exact hD
  have h2_0 : ws2_[mi]? = some (md, .inr (7, [.int (ii a), .int (ii b), .int (ii fr), .int (ii to)])) := by rw [hws2_]; exact gs_s h1_0
  refine lv_aload_n hx hb dX5_tells_10 rfl (lv_at hl 0 rfl) ?_
  refine lv_iload_n hx hb dX5_tells_11 rfl (lv_at hl 3 rfl) ?_
  refine va_put (D := G) (fs := [.int (ii a), .int (ii b), .int (ii fr), .int (ii to)]) (ci := 7) (v := .int (ii c0)) (ty := .int) (C := RX8) (T := TX8) (N := 4) hx hb hts in_X8 tyX8 tyX8_ok nmX8 hown hK hP hD hS mi h2_0 rfl 2 (by decide) (hts _ q889) (fun _ h9 => h9) rfl (tyX8_ok 2 (by decide)) rfl rfl (Nat.le_of_ble_eq_true rfl) dX5_tells_12 (fun H locs hP hD hS => ?_)
  obtain ⟨ws3_, hws3_⟩ : ∃ z, z = (ws2_.set mi (md, .inr (7, [.int (ii a), .int (ii b), .int (ii c0), .int (ii to)]))) := ⟨_, rfl⟩
  replace hP : va_P G gcl ws3_ H := by rw [hws3_]; exact hP
  replace hD : va_D A ws3_ := by rw [hws3_]; exact hD
  have h3_0 : ws3_[mi]? = some (md, .inr (7, [.int (ii a), .int (ii b), .int (ii c0), .int (ii to)])) := by rw [hws3_]; exact gs_s h2_0
  refine lv_aload_n hx hb dX5_tells_15 rfl (lv_at hl 0 rfl) ?_
  refine lv_iload hx hb dX5_tells_16 (lv_at hl 4 rfl) ?_
  refine va_put (D := G) (fs := [.int (ii a), .int (ii b), .int (ii c0), .int (ii to)]) (ci := 7) (v := .int (ii d0)) (ty := .int) (C := RX8) (T := TX8) (N := 4) hx hb hts in_X8 tyX8 tyX8_ok nmX8 hown hK hP hD hS mi h3_0 rfl 3 (by decide) (hts _ q900) (fun _ h9 => h9) rfl (tyX8_ok 3 (by decide)) rfl rfl (Nat.le_of_ble_eq_true rfl) dX5_tells_18 (fun H locs hP hD hS => ?_)
  obtain ⟨ws4_, hws4_⟩ : ∃ z, z = (ws3_.set mi (md, .inr (7, [.int (ii a), .int (ii b), .int (ii c0), .int (ii d0)]))) := ⟨_, rfl⟩
  replace hP : va_P G gcl ws4_ H := by rw [hws4_]; exact hP
  replace hD : va_D A ws4_ := by rw [hws4_]; exact hD
  have h4_0 : ws4_[mi]? = some (md, .inr (7, [.int (ii a), .int (ii b), .int (ii c0), .int (ii d0)])) := by rw [hws4_]; exact gs_s h3_0
  refine lv_aload_n hx hb dX5_tells_21 rfl (lv_at hl 0 rfl) ?_
  exact eMa hQ hx hb hr (.inl ⟨_, rfl⟩) (.inr ⟨_, rfl⟩) hlk hP hD hS (Nat.le_of_ble_eq_true rfl) (Nat.le_of_ble_eq_true rfl) dX5_tells_22 (⟨rfl, by rw [hws4_, hws3_, hws2_, hws1_]; simp only [List.set_set]⟩)
set_option maxHeartbeats 4000000 in
theorem m_tells_9 (l : Launch) (G : va_G) (ty : Nat → ClassId) (ws : va_W) (mi md : Nat) (st rp fr to : Int) (a b c0 d0 : Int) (hM : moveAt ws 8 mi md st rp fr to) : cM l yX5_tells (ws_ yX5_tells cX5_tells 5 (some (.object "DownRope$Move"))) (rm4 0 0 0 0) G ty (ws) [.ref md, .int (ii a), .int (ii b), .int (ii c0), .int (ii d0)] 0 0 (fun r W' => r = some (.ref md) ∧ W' = ws.set mi (md, .inr (8, [.int (ii a), .int (ii b), .int (ii c0), .int (ii d0)]))) := by
  refine cM.of (by decide) (Nat.le_of_ble_eq_true rfl) ?_
  intro p e s m args below meth c A Q H locs hQ hx hb hr hml hown hlk hname hts hK hP hD hS hA hX ls hl
  have hl : lv_has ls 5 [(0, .ref md), (1, .int (ii a)), (2, .int (ii b)), (3, .int (ii c0)), (4, .int (ii d0))] := hl
  refine lv_aload_n hx hb dX5_tells_0 rfl (lv_at hl 0 rfl) ?_
  refine lv_iload_n hx hb dX5_tells_1 rfl (lv_at hl 1 rfl) ?_
  refine va_put (D := G) (fs := [.int (ii st), .int (ii rp), .int (ii fr), .int (ii to)]) (ci := 8) (v := .int (ii a)) (ty := .int) (C := RX9) (T := TX9) (N := 4) hx hb hts in_X9 tyX9 tyX9_ok nmX9 hown hK hP hD hS mi hM rfl 0 (by decide) (hts _ q861) (fun _ h9 => h9) rfl (tyX9_ok 0 (by decide)) rfl rfl (Nat.le_of_ble_eq_true rfl) dX5_tells_2 (fun H locs hP hD hS => ?_)
  obtain ⟨ws1_, hws1_⟩ : ∃ z, z = (ws.set mi (md, .inr (8, [.int (ii a), .int (ii rp), .int (ii fr), .int (ii to)]))) := ⟨_, rfl⟩
  replace hP : va_P G gcl ws1_ H := by rw [hws1_]; exact hP
  replace hD : va_D A ws1_ := by rw [hws1_]; exact hD
  have h1_0 : ws1_[mi]? = some (md, .inr (8, [.int (ii a), .int (ii rp), .int (ii fr), .int (ii to)])) := by rw [hws1_]; exact gs_s hM
  refine lv_aload_n hx hb dX5_tells_5 rfl (lv_at hl 0 rfl) ?_
  refine lv_iload_n hx hb dX5_tells_6 rfl (lv_at hl 2 rfl) ?_
  refine va_put (D := G) (fs := [.int (ii a), .int (ii rp), .int (ii fr), .int (ii to)]) (ci := 8) (v := .int (ii b)) (ty := .int) (C := RX9) (T := TX9) (N := 4) hx hb hts in_X9 tyX9 tyX9_ok nmX9 hown hK hP hD hS mi h1_0 rfl 1 (by decide) (hts _ q874) (fun _ h9 => h9) rfl (tyX9_ok 1 (by decide)) rfl rfl (Nat.le_of_ble_eq_true rfl) dX5_tells_7 (fun H locs hP hD hS => ?_)
  obtain ⟨ws2_, hws2_⟩ : ∃ z, z = (ws1_.set mi (md, .inr (8, [.int (ii a), .int (ii b), .int (ii fr), .int (ii to)]))) := ⟨_, rfl⟩
  replace hP : va_P G gcl ws2_ H := by rw [hws2_]; exact hP
  replace hD : va_D A ws2_ := by rw [hws2_]; exact hD
  have h2_0 : ws2_[mi]? = some (md, .inr (8, [.int (ii a), .int (ii b), .int (ii fr), .int (ii to)])) := by rw [hws2_]; exact gs_s h1_0
  refine lv_aload_n hx hb dX5_tells_10 rfl (lv_at hl 0 rfl) ?_
  refine lv_iload_n hx hb dX5_tells_11 rfl (lv_at hl 3 rfl) ?_
  refine va_put (D := G) (fs := [.int (ii a), .int (ii b), .int (ii fr), .int (ii to)]) (ci := 8) (v := .int (ii c0)) (ty := .int) (C := RX9) (T := TX9) (N := 4) hx hb hts in_X9 tyX9 tyX9_ok nmX9 hown hK hP hD hS mi h2_0 rfl 2 (by decide) (hts _ q889) (fun _ h9 => h9) rfl (tyX9_ok 2 (by decide)) rfl rfl (Nat.le_of_ble_eq_true rfl) dX5_tells_12 (fun H locs hP hD hS => ?_)
  obtain ⟨ws3_, hws3_⟩ : ∃ z, z = (ws2_.set mi (md, .inr (8, [.int (ii a), .int (ii b), .int (ii c0), .int (ii to)]))) := ⟨_, rfl⟩
  replace hP : va_P G gcl ws3_ H := by rw [hws3_]; exact hP
  replace hD : va_D A ws3_ := by rw [hws3_]; exact hD
  have h3_0 : ws3_[mi]? = some (md, .inr (8, [.int (ii a), .int (ii b), .int (ii c0), .int (ii to)])) := by rw [hws3_]; exact gs_s h2_0
  refine lv_aload_n hx hb dX5_tells_15 rfl (lv_at hl 0 rfl) ?_
  refine lv_iload hx hb dX5_tells_16 (lv_at hl 4 rfl) ?_
  refine va_put (D := G) (fs := [.int (ii a), .int (ii b), .int (ii c0), .int (ii to)]) (ci := 8) (v := .int (ii d0)) (ty := .int) (C := RX9) (T := TX9) (N := 4) hx hb hts in_X9 tyX9 tyX9_ok nmX9 hown hK hP hD hS mi h3_0 rfl 3 (by decide) (hts _ q900) (fun _ h9 => h9) rfl (tyX9_ok 3 (by decide)) rfl rfl (Nat.le_of_ble_eq_true rfl) dX5_tells_18 (fun H locs hP hD hS => ?_)
  obtain ⟨ws4_, hws4_⟩ : ∃ z, z = (ws3_.set mi (md, .inr (8, [.int (ii a), .int (ii b), .int (ii c0), .int (ii d0)]))) := ⟨_, rfl⟩
  replace hP : va_P G gcl ws4_ H := by rw [hws4_]; exact hP
  replace hD : va_D A ws4_ := by rw [hws4_]; exact hD
  have h4_0 : ws4_[mi]? = some (md, .inr (8, [.int (ii a), .int (ii b), .int (ii c0), .int (ii d0)])) := by rw [hws4_]; exact gs_s h3_0
  refine lv_aload_n hx hb dX5_tells_21 rfl (lv_at hl 0 rfl) ?_
  exact eMa hQ hx hb hr (.inl ⟨_, rfl⟩) (.inr ⟨_, rfl⟩) hlk hP hD hS (Nat.le_of_ble_eq_true rfl) (Nat.le_of_ble_eq_true rfl) dX5_tells_22 (⟨rfl, by rw [hws4_, hws3_, hws2_, hws1_]; simp only [List.set_set]⟩)
set_option maxHeartbeats 4000000 in
theorem m_tells_10 (l : Launch) (G : va_G) (ty : Nat → ClassId) (ws : va_W) (mi md : Nat) (st rp fr to : Int) (a b c0 d0 : Int) (hM : moveAt ws 9 mi md st rp fr to) : cM l yX5_tells (ws_ yX5_tells cX5_tells 5 (some (.object "DownRope$Move"))) (rm4 0 0 0 0) G ty (ws) [.ref md, .int (ii a), .int (ii b), .int (ii c0), .int (ii d0)] 0 0 (fun r W' => r = some (.ref md) ∧ W' = ws.set mi (md, .inr (9, [.int (ii a), .int (ii b), .int (ii c0), .int (ii d0)]))) := by
  refine cM.of (by decide) (Nat.le_of_ble_eq_true rfl) ?_
  intro p e s m args below meth c A Q H locs hQ hx hb hr hml hown hlk hname hts hK hP hD hS hA hX ls hl
  have hl : lv_has ls 5 [(0, .ref md), (1, .int (ii a)), (2, .int (ii b)), (3, .int (ii c0)), (4, .int (ii d0))] := hl
  refine lv_aload_n hx hb dX5_tells_0 rfl (lv_at hl 0 rfl) ?_
  refine lv_iload_n hx hb dX5_tells_1 rfl (lv_at hl 1 rfl) ?_
  refine va_put (D := G) (fs := [.int (ii st), .int (ii rp), .int (ii fr), .int (ii to)]) (ci := 9) (v := .int (ii a)) (ty := .int) (C := RX10) (T := TX10) (N := 4) hx hb hts in_X10 tyX10 tyX10_ok nmX10 hown hK hP hD hS mi hM rfl 0 (by decide) (hts _ q861) (fun _ h9 => h9) rfl (tyX10_ok 0 (by decide)) rfl rfl (Nat.le_of_ble_eq_true rfl) dX5_tells_2 (fun H locs hP hD hS => ?_)
  obtain ⟨ws1_, hws1_⟩ : ∃ z, z = (ws.set mi (md, .inr (9, [.int (ii a), .int (ii rp), .int (ii fr), .int (ii to)]))) := ⟨_, rfl⟩
  replace hP : va_P G gcl ws1_ H := by rw [hws1_]; exact hP
  replace hD : va_D A ws1_ := by rw [hws1_]; exact hD
  have h1_0 : ws1_[mi]? = some (md, .inr (9, [.int (ii a), .int (ii rp), .int (ii fr), .int (ii to)])) := by rw [hws1_]; exact gs_s hM
  refine lv_aload_n hx hb dX5_tells_5 rfl (lv_at hl 0 rfl) ?_
  refine lv_iload_n hx hb dX5_tells_6 rfl (lv_at hl 2 rfl) ?_
  refine va_put (D := G) (fs := [.int (ii a), .int (ii rp), .int (ii fr), .int (ii to)]) (ci := 9) (v := .int (ii b)) (ty := .int) (C := RX10) (T := TX10) (N := 4) hx hb hts in_X10 tyX10 tyX10_ok nmX10 hown hK hP hD hS mi h1_0 rfl 1 (by decide) (hts _ q874) (fun _ h9 => h9) rfl (tyX10_ok 1 (by decide)) rfl rfl (Nat.le_of_ble_eq_true rfl) dX5_tells_7 (fun H locs hP hD hS => ?_)
  obtain ⟨ws2_, hws2_⟩ : ∃ z, z = (ws1_.set mi (md, .inr (9, [.int (ii a), .int (ii b), .int (ii fr), .int (ii to)]))) := ⟨_, rfl⟩
  replace hP : va_P G gcl ws2_ H := by rw [hws2_]; exact hP
  replace hD : va_D A ws2_ := by rw [hws2_]; exact hD
  have h2_0 : ws2_[mi]? = some (md, .inr (9, [.int (ii a), .int (ii b), .int (ii fr), .int (ii to)])) := by rw [hws2_]; exact gs_s h1_0
  refine lv_aload_n hx hb dX5_tells_10 rfl (lv_at hl 0 rfl) ?_
  refine lv_iload_n hx hb dX5_tells_11 rfl (lv_at hl 3 rfl) ?_
  refine va_put (D := G) (fs := [.int (ii a), .int (ii b), .int (ii fr), .int (ii to)]) (ci := 9) (v := .int (ii c0)) (ty := .int) (C := RX10) (T := TX10) (N := 4) hx hb hts in_X10 tyX10 tyX10_ok nmX10 hown hK hP hD hS mi h2_0 rfl 2 (by decide) (hts _ q889) (fun _ h9 => h9) rfl (tyX10_ok 2 (by decide)) rfl rfl (Nat.le_of_ble_eq_true rfl) dX5_tells_12 (fun H locs hP hD hS => ?_)
  obtain ⟨ws3_, hws3_⟩ : ∃ z, z = (ws2_.set mi (md, .inr (9, [.int (ii a), .int (ii b), .int (ii c0), .int (ii to)]))) := ⟨_, rfl⟩
  replace hP : va_P G gcl ws3_ H := by rw [hws3_]; exact hP
  replace hD : va_D A ws3_ := by rw [hws3_]; exact hD
  have h3_0 : ws3_[mi]? = some (md, .inr (9, [.int (ii a), .int (ii b), .int (ii c0), .int (ii to)])) := by rw [hws3_]; exact gs_s h2_0
  refine lv_aload_n hx hb dX5_tells_15 rfl (lv_at hl 0 rfl) ?_
  refine lv_iload hx hb dX5_tells_16 (lv_at hl 4 rfl) ?_
  refine va_put (D := G) (fs := [.int (ii a), .int (ii b), .int (ii c0), .int (ii to)]) (ci := 9) (v := .int (ii d0)) (ty := .int) (C := RX10) (T := TX10) (N := 4) hx hb hts in_X10 tyX10 tyX10_ok nmX10 hown hK hP hD hS mi h3_0 rfl 3 (by decide) (hts _ q900) (fun _ h9 => h9) rfl (tyX10_ok 3 (by decide)) rfl rfl (Nat.le_of_ble_eq_true rfl) dX5_tells_18 (fun H locs hP hD hS => ?_)
  obtain ⟨ws4_, hws4_⟩ : ∃ z, z = (ws3_.set mi (md, .inr (9, [.int (ii a), .int (ii b), .int (ii c0), .int (ii d0)]))) := ⟨_, rfl⟩
  replace hP : va_P G gcl ws4_ H := by rw [hws4_]; exact hP
  replace hD : va_D A ws4_ := by rw [hws4_]; exact hD
  have h4_0 : ws4_[mi]? = some (md, .inr (9, [.int (ii a), .int (ii b), .int (ii c0), .int (ii d0)])) := by rw [hws4_]; exact gs_s h3_0
  refine lv_aload_n hx hb dX5_tells_21 rfl (lv_at hl 0 rfl) ?_
  exact eMa hQ hx hb hr (.inl ⟨_, rfl⟩) (.inr ⟨_, rfl⟩) hlk hP hD hS (Nat.le_of_ble_eq_true rfl) (Nat.le_of_ble_eq_true rfl) dX5_tells_22 (⟨rfl, by rw [hws4_, hws3_, hws2_, hws1_]; simp only [List.set_set]⟩)
set_option maxHeartbeats 4000000 in
theorem m_tells_11 (l : Launch) (G : va_G) (ty : Nat → ClassId) (ws : va_W) (mi md : Nat) (st rp fr to : Int) (a b c0 d0 : Int) (hM : moveAt ws 10 mi md st rp fr to) : cM l yX5_tells (ws_ yX5_tells cX5_tells 5 (some (.object "DownRope$Move"))) (rm4 0 0 0 0) G ty (ws) [.ref md, .int (ii a), .int (ii b), .int (ii c0), .int (ii d0)] 0 0 (fun r W' => r = some (.ref md) ∧ W' = ws.set mi (md, .inr (10, [.int (ii a), .int (ii b), .int (ii c0), .int (ii d0)]))) := by
  refine cM.of (by decide) (Nat.le_of_ble_eq_true rfl) ?_
  intro p e s m args below meth c A Q H locs hQ hx hb hr hml hown hlk hname hts hK hP hD hS hA hX ls hl
  have hl : lv_has ls 5 [(0, .ref md), (1, .int (ii a)), (2, .int (ii b)), (3, .int (ii c0)), (4, .int (ii d0))] := hl
  refine lv_aload_n hx hb dX5_tells_0 rfl (lv_at hl 0 rfl) ?_
  refine lv_iload_n hx hb dX5_tells_1 rfl (lv_at hl 1 rfl) ?_
  refine va_put (D := G) (fs := [.int (ii st), .int (ii rp), .int (ii fr), .int (ii to)]) (ci := 10) (v := .int (ii a)) (ty := .int) (C := RX11) (T := TX11) (N := 4) hx hb hts in_X11 tyX11 tyX11_ok nmX11 hown hK hP hD hS mi hM rfl 0 (by decide) (hts _ q861) (fun _ h9 => h9) rfl (tyX11_ok 0 (by decide)) rfl rfl (Nat.le_of_ble_eq_true rfl) dX5_tells_2 (fun H locs hP hD hS => ?_)
  obtain ⟨ws1_, hws1_⟩ : ∃ z, z = (ws.set mi (md, .inr (10, [.int (ii a), .int (ii rp), .int (ii fr), .int (ii to)]))) := ⟨_, rfl⟩
  replace hP : va_P G gcl ws1_ H := by rw [hws1_]; exact hP
  replace hD : va_D A ws1_ := by rw [hws1_]; exact hD
  have h1_0 : ws1_[mi]? = some (md, .inr (10, [.int (ii a), .int (ii rp), .int (ii fr), .int (ii to)])) := by rw [hws1_]; exact gs_s hM
  refine lv_aload_n hx hb dX5_tells_5 rfl (lv_at hl 0 rfl) ?_
  refine lv_iload_n hx hb dX5_tells_6 rfl (lv_at hl 2 rfl) ?_
  refine va_put (D := G) (fs := [.int (ii a), .int (ii rp), .int (ii fr), .int (ii to)]) (ci := 10) (v := .int (ii b)) (ty := .int) (C := RX11) (T := TX11) (N := 4) hx hb hts in_X11 tyX11 tyX11_ok nmX11 hown hK hP hD hS mi h1_0 rfl 1 (by decide) (hts _ q874) (fun _ h9 => h9) rfl (tyX11_ok 1 (by decide)) rfl rfl (Nat.le_of_ble_eq_true rfl) dX5_tells_7 (fun H locs hP hD hS => ?_)
  obtain ⟨ws2_, hws2_⟩ : ∃ z, z = (ws1_.set mi (md, .inr (10, [.int (ii a), .int (ii b), .int (ii fr), .int (ii to)]))) := ⟨_, rfl⟩
  replace hP : va_P G gcl ws2_ H := by rw [hws2_]; exact hP
  replace hD : va_D A ws2_ := by rw [hws2_]; exact hD
  have h2_0 : ws2_[mi]? = some (md, .inr (10, [.int (ii a), .int (ii b), .int (ii fr), .int (ii to)])) := by rw [hws2_]; exact gs_s h1_0
  refine lv_aload_n hx hb dX5_tells_10 rfl (lv_at hl 0 rfl) ?_
  refine lv_iload_n hx hb dX5_tells_11 rfl (lv_at hl 3 rfl) ?_
  refine va_put (D := G) (fs := [.int (ii a), .int (ii b), .int (ii fr), .int (ii to)]) (ci := 10) (v := .int (ii c0)) (ty := .int) (C := RX11) (T := TX11) (N := 4) hx hb hts in_X11 tyX11 tyX11_ok nmX11 hown hK hP hD hS mi h2_0 rfl 2 (by decide) (hts _ q889) (fun _ h9 => h9) rfl (tyX11_ok 2 (by decide)) rfl rfl (Nat.le_of_ble_eq_true rfl) dX5_tells_12 (fun H locs hP hD hS => ?_)
  obtain ⟨ws3_, hws3_⟩ : ∃ z, z = (ws2_.set mi (md, .inr (10, [.int (ii a), .int (ii b), .int (ii c0), .int (ii to)]))) := ⟨_, rfl⟩
  replace hP : va_P G gcl ws3_ H := by rw [hws3_]; exact hP
  replace hD : va_D A ws3_ := by rw [hws3_]; exact hD
  have h3_0 : ws3_[mi]? = some (md, .inr (10, [.int (ii a), .int (ii b), .int (ii c0), .int (ii to)])) := by rw [hws3_]; exact gs_s h2_0
  refine lv_aload_n hx hb dX5_tells_15 rfl (lv_at hl 0 rfl) ?_
  refine lv_iload hx hb dX5_tells_16 (lv_at hl 4 rfl) ?_
  refine va_put (D := G) (fs := [.int (ii a), .int (ii b), .int (ii c0), .int (ii to)]) (ci := 10) (v := .int (ii d0)) (ty := .int) (C := RX11) (T := TX11) (N := 4) hx hb hts in_X11 tyX11 tyX11_ok nmX11 hown hK hP hD hS mi h3_0 rfl 3 (by decide) (hts _ q900) (fun _ h9 => h9) rfl (tyX11_ok 3 (by decide)) rfl rfl (Nat.le_of_ble_eq_true rfl) dX5_tells_18 (fun H locs hP hD hS => ?_)
  obtain ⟨ws4_, hws4_⟩ : ∃ z, z = (ws3_.set mi (md, .inr (10, [.int (ii a), .int (ii b), .int (ii c0), .int (ii d0)]))) := ⟨_, rfl⟩
  replace hP : va_P G gcl ws4_ H := by rw [hws4_]; exact hP
  replace hD : va_D A ws4_ := by rw [hws4_]; exact hD
  have h4_0 : ws4_[mi]? = some (md, .inr (10, [.int (ii a), .int (ii b), .int (ii c0), .int (ii d0)])) := by rw [hws4_]; exact gs_s h3_0
  refine lv_aload_n hx hb dX5_tells_21 rfl (lv_at hl 0 rfl) ?_
  exact eMa hQ hx hb hr (.inl ⟨_, rfl⟩) (.inr ⟨_, rfl⟩) hlk hP hD hS (Nat.le_of_ble_eq_true rfl) (Nat.le_of_ble_eq_true rfl) dX5_tells_22 (⟨rfl, by rw [hws4_, hws3_, hws2_, hws1_]; simp only [List.set_set]⟩)
set_option maxHeartbeats 4000000 in
theorem m_moves_5 (l : Launch) (G : va_G) (ty : Nat → ClassId) (ws : va_W) (si sd : Nat → Nat) (w q : Int → Int) (mi md : Nat) (st rp fr to : Int)  (hSp : spotAt ty ws si sd w q) (hM : moveAt ws 4 mi md st rp fr to) (hm : 0 ≤ st ∧ st ≤ 7 ∧ 0 ≤ rp ∧ rp ≤ 1 ∧ 0 ≤ fr ∧ fr ≤ 4 ∧ 0 ≤ to ∧ to ≤ 4) (n_si1_si0 : (si 1) ≠ (si 0)) (n_si1_si2 : (si 1) ≠ (si 2)) (n_si1_mi : (si 1) ≠ mi) : cM l yX5_moves (ws_ yX5_moves cX5_moves 3 none) (rm4 0 0 0 0) G ty (ws) [.ref md, .ref (sd 0)] 0 0 (fun r W' => r = none ∧ W' = ws.set (si 1) (sd 1, .inl (ty 0, 3, .inl (fa (mvw st to w))))) := by
  refine cM.of (by decide) (Nat.le_of_ble_eq_true rfl) ?_
  intro p e s m args below meth c A Q H locs hQ hx hb hr hml hown hlk hname hts hK hP hD hS hA hX ls hl
  have hl : lv_has ls 3 [(0, .ref md), (1, .ref (sd 0))] := hl
  obtain ⟨hm0, hm1, hm2, hm3, hm4, hm5, hm6, hm7⟩ := id hm
  refine li_iconst hx hb dX5_moves_0 ?_
  refine lv_istore_n (lv' := [(2, .int (ii 0)), (0, .ref md), (1, .ref (sd 0))]) hx hb dX5_moves_1 rfl hl (by decide) rfl (fun ls hl => ?_)
  refine lv_iload_n hx hb dX5_moves_2 rfl (lv_at hl 0 rfl) ?_
  refine li_iconst hx hb dX5_moves_3 ?_
  refine li_icmp_ge (tgt := 35) hx hb ⟨by decide, by decide⟩ ⟨by decide, by decide⟩ dX5_moves_4 (by decide) (fun c4 => ?_) (fun c4 => ?_)
  · exact absurd c4 (by decide)
  · refine lv_aload_n hx hb dX5_moves_7 rfl (lv_at hl 1 rfl) ?_
    refine va_get (D := G) (fs := [.int (ii st), .int (ii rp), .int (ii fr), .int (ii to)]) (ci := 4) (v := .int (ii st)) (C := RX5) (T := TX5) (N := 4) hx hb hts in_X5 hown hK hP mi hM rfl 0 (by decide) (hts _ q861) (fun _ h9 => h9) rfl dX5_moves_8 ?_
    refine lv_iload_n hx hb dX5_moves_11 rfl (lv_at hl 0 rfl) ?_
    refine lv_ishr hx hb dX5_moves_12 ?_
    refine li_topx (z := st) (ii_shr0 (by omega) (by omega)) ?_
    refine li_iconst hx hb dX5_moves_13 ?_
    refine lv_iand hx hb dX5_moves_14 ?_
    refine li_topx (z := st % 2) (ii_and1 (by omega) (by omega)) ?_
    refine li_iconst hx hb dX5_moves_15 ?_
    refine li_icmp_ne (tgt := 29) hx hb ⟨by omega, by omega⟩ ⟨by decide, by decide⟩ dX5_moves_16 (by decide) (fun c16 => ?_) (fun c16 => ?_)
    · refine li_iinc (a := 0) (lv' := [(2, .int (ii 1)), (0, .ref md), (1, .ref (sd 0))]) hx hb dX5_moves_29 hl (k := 0) rfl (by decide) rfl (fun ls hl => ?_)
      refine lv_goto (tgt := 2) hx hb dX5_moves_32 (by decide) ?_
      refine lv_iload_n hx hb dX5_moves_2 rfl (lv_at hl 0 rfl) ?_
      refine li_iconst hx hb dX5_moves_3 ?_
      refine li_icmp_ge (tgt := 35) hx hb ⟨by decide, by decide⟩ ⟨by decide, by decide⟩ dX5_moves_4 (by decide) (fun c4 => ?_) (fun c4 => ?_)
      · exact absurd c4 (by decide)
      · refine lv_aload_n hx hb dX5_moves_7 rfl (lv_at hl 1 rfl) ?_
        refine va_get (D := G) (fs := [.int (ii st), .int (ii rp), .int (ii fr), .int (ii to)]) (ci := 4) (v := .int (ii st)) (C := RX5) (T := TX5) (N := 4) hx hb hts in_X5 hown hK hP mi hM rfl 0 (by decide) (hts _ q861) (fun _ h9 => h9) rfl dX5_moves_8 ?_
        refine lv_iload_n hx hb dX5_moves_11 rfl (lv_at hl 0 rfl) ?_
        refine lv_ishr hx hb dX5_moves_12 ?_
        refine li_topx (z := st / 2) (ii_shr1 (by omega) (by omega)) ?_
        refine li_iconst hx hb dX5_moves_13 ?_
        refine lv_iand hx hb dX5_moves_14 ?_
        refine li_topx (z := (st / 2) % 2) (ii_and1 (by omega) (by omega)) ?_
        refine li_iconst hx hb dX5_moves_15 ?_
        refine li_icmp_ne (tgt := 29) hx hb ⟨by omega, by omega⟩ ⟨by decide, by decide⟩ dX5_moves_16 (by decide) (fun c16 => ?_) (fun c16 => ?_)
        · refine li_iinc (a := 1) (lv' := [(2, .int (ii 2)), (0, .ref md), (1, .ref (sd 0))]) hx hb dX5_moves_29 hl (k := 0) rfl (by decide) rfl (fun ls hl => ?_)
          refine lv_goto (tgt := 2) hx hb dX5_moves_32 (by decide) ?_
          refine lv_iload_n hx hb dX5_moves_2 rfl (lv_at hl 0 rfl) ?_
          refine li_iconst hx hb dX5_moves_3 ?_
          refine li_icmp_ge (tgt := 35) hx hb ⟨by decide, by decide⟩ ⟨by decide, by decide⟩ dX5_moves_4 (by decide) (fun c4 => ?_) (fun c4 => ?_)
          · exact absurd c4 (by decide)
          · refine lv_aload_n hx hb dX5_moves_7 rfl (lv_at hl 1 rfl) ?_
            refine va_get (D := G) (fs := [.int (ii st), .int (ii rp), .int (ii fr), .int (ii to)]) (ci := 4) (v := .int (ii st)) (C := RX5) (T := TX5) (N := 4) hx hb hts in_X5 hown hK hP mi hM rfl 0 (by decide) (hts _ q861) (fun _ h9 => h9) rfl dX5_moves_8 ?_
            refine lv_iload_n hx hb dX5_moves_11 rfl (lv_at hl 0 rfl) ?_
            refine lv_ishr hx hb dX5_moves_12 ?_
            refine li_topx (z := st / 4) (ii_shr2 (by omega) (by omega)) ?_
            refine li_iconst hx hb dX5_moves_13 ?_
            refine lv_iand hx hb dX5_moves_14 ?_
            refine li_topx (z := (st / 4) % 2) (ii_and1 (by omega) (by omega)) ?_
            refine li_iconst hx hb dX5_moves_15 ?_
            refine li_icmp_ne (tgt := 29) hx hb ⟨by omega, by omega⟩ ⟨by decide, by decide⟩ dX5_moves_16 (by decide) (fun c16 => ?_) (fun c16 => ?_)
            · refine li_iinc (a := 2) (lv' := [(2, .int (ii 3)), (0, .ref md), (1, .ref (sd 0))]) hx hb dX5_moves_29 hl (k := 0) rfl (by decide) rfl (fun ls hl => ?_)
              refine lv_goto (tgt := 2) hx hb dX5_moves_32 (by decide) ?_
              refine lv_iload_n hx hb dX5_moves_2 rfl (lv_at hl 0 rfl) ?_
              refine li_iconst hx hb dX5_moves_3 ?_
              refine li_icmp_ge (tgt := 35) hx hb ⟨by decide, by decide⟩ ⟨by decide, by decide⟩ dX5_moves_4 (by decide) (fun c4 => ?_) (fun c4 => ?_)
              · exact eMv hQ hx hb hr hlk hP hD hS (Nat.le_of_ble_eq_true rfl) (Nat.le_of_ble_eq_true rfl) dX5_moves_35 (⟨rfl, by have e : (w) = mvw st to w := (by funext i; simp only [mvw, ug]; omega); rw [← e]; exact (set_same hSp.2.1).symm⟩)
              · exact absurd c4 (by decide)
            · refine lv_aload_n hx hb dX5_moves_19 rfl (lv_at hl 2 rfl) ?_
              refine va_get (D := G) (fs := [.ref (sd 1), .ref (sd 2)]) (ci := 2) (v := .ref (sd 1)) (C := RX3) (T := TX3) (N := 2) hx hb hts in_X3 hown hK hP (si 0) hSp.1 rfl 0 (by decide) (hts _ q655) (fun _ h9 => h9) rfl dX5_moves_20 ?_
              refine lv_iload_n hx hb dX5_moves_23 rfl (lv_at hl 0 rfl) ?_
              refine lv_aload_n hx hb dX5_moves_24 rfl (lv_at hl 1 rfl) ?_
              refine va_get (D := G) (fs := [.int (ii st), .int (ii rp), .int (ii fr), .int (ii to)]) (ci := 4) (v := .int (ii to)) (C := RX5) (T := TX5) (N := 4) hx hb hts in_X5 hown hK hP mi hM rfl 3 (by decide) (hts _ q900) (fun _ h9 => h9) rfl dX5_moves_25 ?_
              refine li_iast (g := w) (W2 := (ws.set (si 1) (sd 1, .inl (ty 0, 3, .inl (fa (ug w 2 to)))))) hx hb hK hP hD hS (si 1) 0 hSp.2.1 rfl (by decide) (by decide) (by decide) rfl dX5_moves_28 (fun H locs hP hD hS => ?_)
              obtain ⟨ws1_, hws1_⟩ : ∃ z, z = (ws.set (si 1) (sd 1, .inl (ty 0, 3, .inl (fa (ug w 2 to))))) := ⟨_, rfl⟩
              replace hP : va_P G gcl ws1_ H := by rw [hws1_]; exact hP
              replace hD : va_D A ws1_ := by rw [hws1_]; exact hD
              have h1_0 : ws1_[(si 0)]? = some (sd 0, .inr (2, [.ref (sd 1), .ref (sd 2)])) := by rw [hws1_]; exact gs_n n_si1_si0 hSp.1
              have h1_1 : ws1_[(si 1)]? = some (sd 1, .inl (ty 0, 3, .inl (fa (ug w 2 to)))) := by rw [hws1_]; exact gs_s hSp.2.1
              have h1_2 : ws1_[(si 2)]? = some (sd 2, .inl (ty 0, 2, .inl (fa q))) := by rw [hws1_]; exact gs_n n_si1_si2 hSp.2.2
              have h1_3 : ws1_[mi]? = some (md, .inr (4, [.int (ii st), .int (ii rp), .int (ii fr), .int (ii to)])) := by rw [hws1_]; exact gs_n n_si1_mi hM
              refine li_iinc (a := 2) (lv' := [(2, .int (ii 3)), (0, .ref md), (1, .ref (sd 0))]) hx hb dX5_moves_29 hl (k := 0) rfl (by decide) rfl (fun ls hl => ?_)
              refine lv_goto (tgt := 2) hx hb dX5_moves_32 (by decide) ?_
              refine lv_iload_n hx hb dX5_moves_2 rfl (lv_at hl 0 rfl) ?_
              refine li_iconst hx hb dX5_moves_3 ?_
              refine li_icmp_ge (tgt := 35) hx hb ⟨by decide, by decide⟩ ⟨by decide, by decide⟩ dX5_moves_4 (by decide) (fun c4 => ?_) (fun c4 => ?_)
              · exact eMv hQ hx hb hr hlk hP hD hS (Nat.le_of_ble_eq_true rfl) (Nat.le_of_ble_eq_true rfl) dX5_moves_35 (⟨rfl, by have e : (ug w 2 to) = mvw st to w := (by funext i; simp only [mvw, ug]; omega); rw [hws1_]; (try simp only [List.set_set]); rw [e]⟩)
              · exact absurd c4 (by decide)
        · refine lv_aload_n hx hb dX5_moves_19 rfl (lv_at hl 2 rfl) ?_
          refine va_get (D := G) (fs := [.ref (sd 1), .ref (sd 2)]) (ci := 2) (v := .ref (sd 1)) (C := RX3) (T := TX3) (N := 2) hx hb hts in_X3 hown hK hP (si 0) hSp.1 rfl 0 (by decide) (hts _ q655) (fun _ h9 => h9) rfl dX5_moves_20 ?_
          refine lv_iload_n hx hb dX5_moves_23 rfl (lv_at hl 0 rfl) ?_
          refine lv_aload_n hx hb dX5_moves_24 rfl (lv_at hl 1 rfl) ?_
          refine va_get (D := G) (fs := [.int (ii st), .int (ii rp), .int (ii fr), .int (ii to)]) (ci := 4) (v := .int (ii to)) (C := RX5) (T := TX5) (N := 4) hx hb hts in_X5 hown hK hP mi hM rfl 3 (by decide) (hts _ q900) (fun _ h9 => h9) rfl dX5_moves_25 ?_
          refine li_iast (g := w) (W2 := (ws.set (si 1) (sd 1, .inl (ty 0, 3, .inl (fa (ug w 1 to)))))) hx hb hK hP hD hS (si 1) 0 hSp.2.1 rfl (by decide) (by decide) (by decide) rfl dX5_moves_28 (fun H locs hP hD hS => ?_)
          obtain ⟨ws1_, hws1_⟩ : ∃ z, z = (ws.set (si 1) (sd 1, .inl (ty 0, 3, .inl (fa (ug w 1 to))))) := ⟨_, rfl⟩
          replace hP : va_P G gcl ws1_ H := by rw [hws1_]; exact hP
          replace hD : va_D A ws1_ := by rw [hws1_]; exact hD
          have h1_0 : ws1_[(si 0)]? = some (sd 0, .inr (2, [.ref (sd 1), .ref (sd 2)])) := by rw [hws1_]; exact gs_n n_si1_si0 hSp.1
          have h1_1 : ws1_[(si 1)]? = some (sd 1, .inl (ty 0, 3, .inl (fa (ug w 1 to)))) := by rw [hws1_]; exact gs_s hSp.2.1
          have h1_2 : ws1_[(si 2)]? = some (sd 2, .inl (ty 0, 2, .inl (fa q))) := by rw [hws1_]; exact gs_n n_si1_si2 hSp.2.2
          have h1_3 : ws1_[mi]? = some (md, .inr (4, [.int (ii st), .int (ii rp), .int (ii fr), .int (ii to)])) := by rw [hws1_]; exact gs_n n_si1_mi hM
          refine li_iinc (a := 1) (lv' := [(2, .int (ii 2)), (0, .ref md), (1, .ref (sd 0))]) hx hb dX5_moves_29 hl (k := 0) rfl (by decide) rfl (fun ls hl => ?_)
          refine lv_goto (tgt := 2) hx hb dX5_moves_32 (by decide) ?_
          refine lv_iload_n hx hb dX5_moves_2 rfl (lv_at hl 0 rfl) ?_
          refine li_iconst hx hb dX5_moves_3 ?_
          refine li_icmp_ge (tgt := 35) hx hb ⟨by decide, by decide⟩ ⟨by decide, by decide⟩ dX5_moves_4 (by decide) (fun c4 => ?_) (fun c4 => ?_)
          · exact absurd c4 (by decide)
          · refine lv_aload_n hx hb dX5_moves_7 rfl (lv_at hl 1 rfl) ?_
            refine va_get (D := G) (fs := [.int (ii st), .int (ii rp), .int (ii fr), .int (ii to)]) (ci := 4) (v := .int (ii st)) (C := RX5) (T := TX5) (N := 4) hx hb hts in_X5 hown hK hP mi h1_3 rfl 0 (by decide) (hts _ q861) (fun _ h9 => h9) rfl dX5_moves_8 ?_
            refine lv_iload_n hx hb dX5_moves_11 rfl (lv_at hl 0 rfl) ?_
            refine lv_ishr hx hb dX5_moves_12 ?_
            refine li_topx (z := st / 4) (ii_shr2 (by omega) (by omega)) ?_
            refine li_iconst hx hb dX5_moves_13 ?_
            refine lv_iand hx hb dX5_moves_14 ?_
            refine li_topx (z := (st / 4) % 2) (ii_and1 (by omega) (by omega)) ?_
            refine li_iconst hx hb dX5_moves_15 ?_
            refine li_icmp_ne (tgt := 29) hx hb ⟨by omega, by omega⟩ ⟨by decide, by decide⟩ dX5_moves_16 (by decide) (fun c16 => ?_) (fun c16 => ?_)
            · refine li_iinc (a := 2) (lv' := [(2, .int (ii 3)), (0, .ref md), (1, .ref (sd 0))]) hx hb dX5_moves_29 hl (k := 0) rfl (by decide) rfl (fun ls hl => ?_)
              refine lv_goto (tgt := 2) hx hb dX5_moves_32 (by decide) ?_
              refine lv_iload_n hx hb dX5_moves_2 rfl (lv_at hl 0 rfl) ?_
              refine li_iconst hx hb dX5_moves_3 ?_
              refine li_icmp_ge (tgt := 35) hx hb ⟨by decide, by decide⟩ ⟨by decide, by decide⟩ dX5_moves_4 (by decide) (fun c4 => ?_) (fun c4 => ?_)
              · exact eMv hQ hx hb hr hlk hP hD hS (Nat.le_of_ble_eq_true rfl) (Nat.le_of_ble_eq_true rfl) dX5_moves_35 (⟨rfl, by have e : (ug w 1 to) = mvw st to w := (by funext i; simp only [mvw, ug]; omega); rw [hws1_]; (try simp only [List.set_set]); rw [e]⟩)
              · exact absurd c4 (by decide)
            · refine lv_aload_n hx hb dX5_moves_19 rfl (lv_at hl 2 rfl) ?_
              refine va_get (D := G) (fs := [.ref (sd 1), .ref (sd 2)]) (ci := 2) (v := .ref (sd 1)) (C := RX3) (T := TX3) (N := 2) hx hb hts in_X3 hown hK hP (si 0) h1_0 rfl 0 (by decide) (hts _ q655) (fun _ h9 => h9) rfl dX5_moves_20 ?_
              refine lv_iload_n hx hb dX5_moves_23 rfl (lv_at hl 0 rfl) ?_
              refine lv_aload_n hx hb dX5_moves_24 rfl (lv_at hl 1 rfl) ?_
              refine va_get (D := G) (fs := [.int (ii st), .int (ii rp), .int (ii fr), .int (ii to)]) (ci := 4) (v := .int (ii to)) (C := RX5) (T := TX5) (N := 4) hx hb hts in_X5 hown hK hP mi h1_3 rfl 3 (by decide) (hts _ q900) (fun _ h9 => h9) rfl dX5_moves_25 ?_
              refine li_iast (g := ug w 1 to) (W2 := (ws1_.set (si 1) (sd 1, .inl (ty 0, 3, .inl (fa (ug (ug w 1 to) 2 to)))))) hx hb hK hP hD hS (si 1) 0 h1_1 rfl (by decide) (by decide) (by decide) rfl dX5_moves_28 (fun H locs hP hD hS => ?_)
              obtain ⟨ws2_, hws2_⟩ : ∃ z, z = (ws1_.set (si 1) (sd 1, .inl (ty 0, 3, .inl (fa (ug (ug w 1 to) 2 to))))) := ⟨_, rfl⟩
              replace hP : va_P G gcl ws2_ H := by rw [hws2_]; exact hP
              replace hD : va_D A ws2_ := by rw [hws2_]; exact hD
              have h2_0 : ws2_[(si 0)]? = some (sd 0, .inr (2, [.ref (sd 1), .ref (sd 2)])) := by rw [hws2_]; exact gs_n n_si1_si0 h1_0
              have h2_1 : ws2_[(si 1)]? = some (sd 1, .inl (ty 0, 3, .inl (fa (ug (ug w 1 to) 2 to)))) := by rw [hws2_]; exact gs_s h1_1
              have h2_2 : ws2_[(si 2)]? = some (sd 2, .inl (ty 0, 2, .inl (fa q))) := by rw [hws2_]; exact gs_n n_si1_si2 h1_2
              have h2_3 : ws2_[mi]? = some (md, .inr (4, [.int (ii st), .int (ii rp), .int (ii fr), .int (ii to)])) := by rw [hws2_]; exact gs_n n_si1_mi h1_3
              refine li_iinc (a := 2) (lv' := [(2, .int (ii 3)), (0, .ref md), (1, .ref (sd 0))]) hx hb dX5_moves_29 hl (k := 0) rfl (by decide) rfl (fun ls hl => ?_)
              refine lv_goto (tgt := 2) hx hb dX5_moves_32 (by decide) ?_
              refine lv_iload_n hx hb dX5_moves_2 rfl (lv_at hl 0 rfl) ?_
              refine li_iconst hx hb dX5_moves_3 ?_
              refine li_icmp_ge (tgt := 35) hx hb ⟨by decide, by decide⟩ ⟨by decide, by decide⟩ dX5_moves_4 (by decide) (fun c4 => ?_) (fun c4 => ?_)
              · exact eMv hQ hx hb hr hlk hP hD hS (Nat.le_of_ble_eq_true rfl) (Nat.le_of_ble_eq_true rfl) dX5_moves_35 (⟨rfl, by have e : (ug (ug w 1 to) 2 to) = mvw st to w := (by funext i; simp only [mvw, ug]; omega); rw [hws2_, hws1_]; (try simp only [List.set_set]); rw [e]⟩)
              · exact absurd c4 (by decide)
    · refine lv_aload_n hx hb dX5_moves_19 rfl (lv_at hl 2 rfl) ?_
      refine va_get (D := G) (fs := [.ref (sd 1), .ref (sd 2)]) (ci := 2) (v := .ref (sd 1)) (C := RX3) (T := TX3) (N := 2) hx hb hts in_X3 hown hK hP (si 0) hSp.1 rfl 0 (by decide) (hts _ q655) (fun _ h9 => h9) rfl dX5_moves_20 ?_
      refine lv_iload_n hx hb dX5_moves_23 rfl (lv_at hl 0 rfl) ?_
      refine lv_aload_n hx hb dX5_moves_24 rfl (lv_at hl 1 rfl) ?_
      refine va_get (D := G) (fs := [.int (ii st), .int (ii rp), .int (ii fr), .int (ii to)]) (ci := 4) (v := .int (ii to)) (C := RX5) (T := TX5) (N := 4) hx hb hts in_X5 hown hK hP mi hM rfl 3 (by decide) (hts _ q900) (fun _ h9 => h9) rfl dX5_moves_25 ?_
      refine li_iast (g := w) (W2 := (ws.set (si 1) (sd 1, .inl (ty 0, 3, .inl (fa (ug w 0 to)))))) hx hb hK hP hD hS (si 1) 0 hSp.2.1 rfl (by decide) (by decide) (by decide) rfl dX5_moves_28 (fun H locs hP hD hS => ?_)
      obtain ⟨ws1_, hws1_⟩ : ∃ z, z = (ws.set (si 1) (sd 1, .inl (ty 0, 3, .inl (fa (ug w 0 to))))) := ⟨_, rfl⟩
      replace hP : va_P G gcl ws1_ H := by rw [hws1_]; exact hP
      replace hD : va_D A ws1_ := by rw [hws1_]; exact hD
      have h1_0 : ws1_[(si 0)]? = some (sd 0, .inr (2, [.ref (sd 1), .ref (sd 2)])) := by rw [hws1_]; exact gs_n n_si1_si0 hSp.1
      have h1_1 : ws1_[(si 1)]? = some (sd 1, .inl (ty 0, 3, .inl (fa (ug w 0 to)))) := by rw [hws1_]; exact gs_s hSp.2.1
      have h1_2 : ws1_[(si 2)]? = some (sd 2, .inl (ty 0, 2, .inl (fa q))) := by rw [hws1_]; exact gs_n n_si1_si2 hSp.2.2
      have h1_3 : ws1_[mi]? = some (md, .inr (4, [.int (ii st), .int (ii rp), .int (ii fr), .int (ii to)])) := by rw [hws1_]; exact gs_n n_si1_mi hM
      refine li_iinc (a := 0) (lv' := [(2, .int (ii 1)), (0, .ref md), (1, .ref (sd 0))]) hx hb dX5_moves_29 hl (k := 0) rfl (by decide) rfl (fun ls hl => ?_)
      refine lv_goto (tgt := 2) hx hb dX5_moves_32 (by decide) ?_
      refine lv_iload_n hx hb dX5_moves_2 rfl (lv_at hl 0 rfl) ?_
      refine li_iconst hx hb dX5_moves_3 ?_
      refine li_icmp_ge (tgt := 35) hx hb ⟨by decide, by decide⟩ ⟨by decide, by decide⟩ dX5_moves_4 (by decide) (fun c4 => ?_) (fun c4 => ?_)
      · exact absurd c4 (by decide)
      · refine lv_aload_n hx hb dX5_moves_7 rfl (lv_at hl 1 rfl) ?_
        refine va_get (D := G) (fs := [.int (ii st), .int (ii rp), .int (ii fr), .int (ii to)]) (ci := 4) (v := .int (ii st)) (C := RX5) (T := TX5) (N := 4) hx hb hts in_X5 hown hK hP mi h1_3 rfl 0 (by decide) (hts _ q861) (fun _ h9 => h9) rfl dX5_moves_8 ?_
        refine lv_iload_n hx hb dX5_moves_11 rfl (lv_at hl 0 rfl) ?_
        refine lv_ishr hx hb dX5_moves_12 ?_
        refine li_topx (z := st / 2) (ii_shr1 (by omega) (by omega)) ?_
        refine li_iconst hx hb dX5_moves_13 ?_
        refine lv_iand hx hb dX5_moves_14 ?_
        refine li_topx (z := (st / 2) % 2) (ii_and1 (by omega) (by omega)) ?_
        refine li_iconst hx hb dX5_moves_15 ?_
        refine li_icmp_ne (tgt := 29) hx hb ⟨by omega, by omega⟩ ⟨by decide, by decide⟩ dX5_moves_16 (by decide) (fun c16 => ?_) (fun c16 => ?_)
        · refine li_iinc (a := 1) (lv' := [(2, .int (ii 2)), (0, .ref md), (1, .ref (sd 0))]) hx hb dX5_moves_29 hl (k := 0) rfl (by decide) rfl (fun ls hl => ?_)
          refine lv_goto (tgt := 2) hx hb dX5_moves_32 (by decide) ?_
          refine lv_iload_n hx hb dX5_moves_2 rfl (lv_at hl 0 rfl) ?_
          refine li_iconst hx hb dX5_moves_3 ?_
          refine li_icmp_ge (tgt := 35) hx hb ⟨by decide, by decide⟩ ⟨by decide, by decide⟩ dX5_moves_4 (by decide) (fun c4 => ?_) (fun c4 => ?_)
          · exact absurd c4 (by decide)
          · refine lv_aload_n hx hb dX5_moves_7 rfl (lv_at hl 1 rfl) ?_
            refine va_get (D := G) (fs := [.int (ii st), .int (ii rp), .int (ii fr), .int (ii to)]) (ci := 4) (v := .int (ii st)) (C := RX5) (T := TX5) (N := 4) hx hb hts in_X5 hown hK hP mi h1_3 rfl 0 (by decide) (hts _ q861) (fun _ h9 => h9) rfl dX5_moves_8 ?_
            refine lv_iload_n hx hb dX5_moves_11 rfl (lv_at hl 0 rfl) ?_
            refine lv_ishr hx hb dX5_moves_12 ?_
            refine li_topx (z := st / 4) (ii_shr2 (by omega) (by omega)) ?_
            refine li_iconst hx hb dX5_moves_13 ?_
            refine lv_iand hx hb dX5_moves_14 ?_
            refine li_topx (z := (st / 4) % 2) (ii_and1 (by omega) (by omega)) ?_
            refine li_iconst hx hb dX5_moves_15 ?_
            refine li_icmp_ne (tgt := 29) hx hb ⟨by omega, by omega⟩ ⟨by decide, by decide⟩ dX5_moves_16 (by decide) (fun c16 => ?_) (fun c16 => ?_)
            · refine li_iinc (a := 2) (lv' := [(2, .int (ii 3)), (0, .ref md), (1, .ref (sd 0))]) hx hb dX5_moves_29 hl (k := 0) rfl (by decide) rfl (fun ls hl => ?_)
              refine lv_goto (tgt := 2) hx hb dX5_moves_32 (by decide) ?_
              refine lv_iload_n hx hb dX5_moves_2 rfl (lv_at hl 0 rfl) ?_
              refine li_iconst hx hb dX5_moves_3 ?_
              refine li_icmp_ge (tgt := 35) hx hb ⟨by decide, by decide⟩ ⟨by decide, by decide⟩ dX5_moves_4 (by decide) (fun c4 => ?_) (fun c4 => ?_)
              · exact eMv hQ hx hb hr hlk hP hD hS (Nat.le_of_ble_eq_true rfl) (Nat.le_of_ble_eq_true rfl) dX5_moves_35 (⟨rfl, by have e : (ug w 0 to) = mvw st to w := (by funext i; simp only [mvw, ug]; omega); rw [hws1_]; (try simp only [List.set_set]); rw [e]⟩)
              · exact absurd c4 (by decide)
            · refine lv_aload_n hx hb dX5_moves_19 rfl (lv_at hl 2 rfl) ?_
              refine va_get (D := G) (fs := [.ref (sd 1), .ref (sd 2)]) (ci := 2) (v := .ref (sd 1)) (C := RX3) (T := TX3) (N := 2) hx hb hts in_X3 hown hK hP (si 0) h1_0 rfl 0 (by decide) (hts _ q655) (fun _ h9 => h9) rfl dX5_moves_20 ?_
              refine lv_iload_n hx hb dX5_moves_23 rfl (lv_at hl 0 rfl) ?_
              refine lv_aload_n hx hb dX5_moves_24 rfl (lv_at hl 1 rfl) ?_
              refine va_get (D := G) (fs := [.int (ii st), .int (ii rp), .int (ii fr), .int (ii to)]) (ci := 4) (v := .int (ii to)) (C := RX5) (T := TX5) (N := 4) hx hb hts in_X5 hown hK hP mi h1_3 rfl 3 (by decide) (hts _ q900) (fun _ h9 => h9) rfl dX5_moves_25 ?_
              refine li_iast (g := ug w 0 to) (W2 := (ws1_.set (si 1) (sd 1, .inl (ty 0, 3, .inl (fa (ug (ug w 0 to) 2 to)))))) hx hb hK hP hD hS (si 1) 0 h1_1 rfl (by decide) (by decide) (by decide) rfl dX5_moves_28 (fun H locs hP hD hS => ?_)
              obtain ⟨ws2_, hws2_⟩ : ∃ z, z = (ws1_.set (si 1) (sd 1, .inl (ty 0, 3, .inl (fa (ug (ug w 0 to) 2 to))))) := ⟨_, rfl⟩
              replace hP : va_P G gcl ws2_ H := by rw [hws2_]; exact hP
              replace hD : va_D A ws2_ := by rw [hws2_]; exact hD
              have h2_0 : ws2_[(si 0)]? = some (sd 0, .inr (2, [.ref (sd 1), .ref (sd 2)])) := by rw [hws2_]; exact gs_n n_si1_si0 h1_0
              have h2_1 : ws2_[(si 1)]? = some (sd 1, .inl (ty 0, 3, .inl (fa (ug (ug w 0 to) 2 to)))) := by rw [hws2_]; exact gs_s h1_1
              have h2_2 : ws2_[(si 2)]? = some (sd 2, .inl (ty 0, 2, .inl (fa q))) := by rw [hws2_]; exact gs_n n_si1_si2 h1_2
              have h2_3 : ws2_[mi]? = some (md, .inr (4, [.int (ii st), .int (ii rp), .int (ii fr), .int (ii to)])) := by rw [hws2_]; exact gs_n n_si1_mi h1_3
              refine li_iinc (a := 2) (lv' := [(2, .int (ii 3)), (0, .ref md), (1, .ref (sd 0))]) hx hb dX5_moves_29 hl (k := 0) rfl (by decide) rfl (fun ls hl => ?_)
              refine lv_goto (tgt := 2) hx hb dX5_moves_32 (by decide) ?_
              refine lv_iload_n hx hb dX5_moves_2 rfl (lv_at hl 0 rfl) ?_
              refine li_iconst hx hb dX5_moves_3 ?_
              refine li_icmp_ge (tgt := 35) hx hb ⟨by decide, by decide⟩ ⟨by decide, by decide⟩ dX5_moves_4 (by decide) (fun c4 => ?_) (fun c4 => ?_)
              · exact eMv hQ hx hb hr hlk hP hD hS (Nat.le_of_ble_eq_true rfl) (Nat.le_of_ble_eq_true rfl) dX5_moves_35 (⟨rfl, by have e : (ug (ug w 0 to) 2 to) = mvw st to w := (by funext i; simp only [mvw, ug]; omega); rw [hws2_, hws1_]; (try simp only [List.set_set]); rw [e]⟩)
              · exact absurd c4 (by decide)
        · refine lv_aload_n hx hb dX5_moves_19 rfl (lv_at hl 2 rfl) ?_
          refine va_get (D := G) (fs := [.ref (sd 1), .ref (sd 2)]) (ci := 2) (v := .ref (sd 1)) (C := RX3) (T := TX3) (N := 2) hx hb hts in_X3 hown hK hP (si 0) h1_0 rfl 0 (by decide) (hts _ q655) (fun _ h9 => h9) rfl dX5_moves_20 ?_
          refine lv_iload_n hx hb dX5_moves_23 rfl (lv_at hl 0 rfl) ?_
          refine lv_aload_n hx hb dX5_moves_24 rfl (lv_at hl 1 rfl) ?_
          refine va_get (D := G) (fs := [.int (ii st), .int (ii rp), .int (ii fr), .int (ii to)]) (ci := 4) (v := .int (ii to)) (C := RX5) (T := TX5) (N := 4) hx hb hts in_X5 hown hK hP mi h1_3 rfl 3 (by decide) (hts _ q900) (fun _ h9 => h9) rfl dX5_moves_25 ?_
          refine li_iast (g := ug w 0 to) (W2 := (ws1_.set (si 1) (sd 1, .inl (ty 0, 3, .inl (fa (ug (ug w 0 to) 1 to)))))) hx hb hK hP hD hS (si 1) 0 h1_1 rfl (by decide) (by decide) (by decide) rfl dX5_moves_28 (fun H locs hP hD hS => ?_)
          obtain ⟨ws2_, hws2_⟩ : ∃ z, z = (ws1_.set (si 1) (sd 1, .inl (ty 0, 3, .inl (fa (ug (ug w 0 to) 1 to))))) := ⟨_, rfl⟩
          replace hP : va_P G gcl ws2_ H := by rw [hws2_]; exact hP
          replace hD : va_D A ws2_ := by rw [hws2_]; exact hD
          have h2_0 : ws2_[(si 0)]? = some (sd 0, .inr (2, [.ref (sd 1), .ref (sd 2)])) := by rw [hws2_]; exact gs_n n_si1_si0 h1_0
          have h2_1 : ws2_[(si 1)]? = some (sd 1, .inl (ty 0, 3, .inl (fa (ug (ug w 0 to) 1 to)))) := by rw [hws2_]; exact gs_s h1_1
          have h2_2 : ws2_[(si 2)]? = some (sd 2, .inl (ty 0, 2, .inl (fa q))) := by rw [hws2_]; exact gs_n n_si1_si2 h1_2
          have h2_3 : ws2_[mi]? = some (md, .inr (4, [.int (ii st), .int (ii rp), .int (ii fr), .int (ii to)])) := by rw [hws2_]; exact gs_n n_si1_mi h1_3
          refine li_iinc (a := 1) (lv' := [(2, .int (ii 2)), (0, .ref md), (1, .ref (sd 0))]) hx hb dX5_moves_29 hl (k := 0) rfl (by decide) rfl (fun ls hl => ?_)
          refine lv_goto (tgt := 2) hx hb dX5_moves_32 (by decide) ?_
          refine lv_iload_n hx hb dX5_moves_2 rfl (lv_at hl 0 rfl) ?_
          refine li_iconst hx hb dX5_moves_3 ?_
          refine li_icmp_ge (tgt := 35) hx hb ⟨by decide, by decide⟩ ⟨by decide, by decide⟩ dX5_moves_4 (by decide) (fun c4 => ?_) (fun c4 => ?_)
          · exact absurd c4 (by decide)
          · refine lv_aload_n hx hb dX5_moves_7 rfl (lv_at hl 1 rfl) ?_
            refine va_get (D := G) (fs := [.int (ii st), .int (ii rp), .int (ii fr), .int (ii to)]) (ci := 4) (v := .int (ii st)) (C := RX5) (T := TX5) (N := 4) hx hb hts in_X5 hown hK hP mi h2_3 rfl 0 (by decide) (hts _ q861) (fun _ h9 => h9) rfl dX5_moves_8 ?_
            refine lv_iload_n hx hb dX5_moves_11 rfl (lv_at hl 0 rfl) ?_
            refine lv_ishr hx hb dX5_moves_12 ?_
            refine li_topx (z := st / 4) (ii_shr2 (by omega) (by omega)) ?_
            refine li_iconst hx hb dX5_moves_13 ?_
            refine lv_iand hx hb dX5_moves_14 ?_
            refine li_topx (z := (st / 4) % 2) (ii_and1 (by omega) (by omega)) ?_
            refine li_iconst hx hb dX5_moves_15 ?_
            refine li_icmp_ne (tgt := 29) hx hb ⟨by omega, by omega⟩ ⟨by decide, by decide⟩ dX5_moves_16 (by decide) (fun c16 => ?_) (fun c16 => ?_)
            · refine li_iinc (a := 2) (lv' := [(2, .int (ii 3)), (0, .ref md), (1, .ref (sd 0))]) hx hb dX5_moves_29 hl (k := 0) rfl (by decide) rfl (fun ls hl => ?_)
              refine lv_goto (tgt := 2) hx hb dX5_moves_32 (by decide) ?_
              refine lv_iload_n hx hb dX5_moves_2 rfl (lv_at hl 0 rfl) ?_
              refine li_iconst hx hb dX5_moves_3 ?_
              refine li_icmp_ge (tgt := 35) hx hb ⟨by decide, by decide⟩ ⟨by decide, by decide⟩ dX5_moves_4 (by decide) (fun c4 => ?_) (fun c4 => ?_)
              · exact eMv hQ hx hb hr hlk hP hD hS (Nat.le_of_ble_eq_true rfl) (Nat.le_of_ble_eq_true rfl) dX5_moves_35 (⟨rfl, by have e : (ug (ug w 0 to) 1 to) = mvw st to w := (by funext i; simp only [mvw, ug]; omega); rw [hws2_, hws1_]; (try simp only [List.set_set]); rw [e]⟩)
              · exact absurd c4 (by decide)
            · refine lv_aload_n hx hb dX5_moves_19 rfl (lv_at hl 2 rfl) ?_
              refine va_get (D := G) (fs := [.ref (sd 1), .ref (sd 2)]) (ci := 2) (v := .ref (sd 1)) (C := RX3) (T := TX3) (N := 2) hx hb hts in_X3 hown hK hP (si 0) h2_0 rfl 0 (by decide) (hts _ q655) (fun _ h9 => h9) rfl dX5_moves_20 ?_
              refine lv_iload_n hx hb dX5_moves_23 rfl (lv_at hl 0 rfl) ?_
              refine lv_aload_n hx hb dX5_moves_24 rfl (lv_at hl 1 rfl) ?_
              refine va_get (D := G) (fs := [.int (ii st), .int (ii rp), .int (ii fr), .int (ii to)]) (ci := 4) (v := .int (ii to)) (C := RX5) (T := TX5) (N := 4) hx hb hts in_X5 hown hK hP mi h2_3 rfl 3 (by decide) (hts _ q900) (fun _ h9 => h9) rfl dX5_moves_25 ?_
              refine li_iast (g := ug (ug w 0 to) 1 to) (W2 := (ws2_.set (si 1) (sd 1, .inl (ty 0, 3, .inl (fa (ug (ug (ug w 0 to) 1 to) 2 to)))))) hx hb hK hP hD hS (si 1) 0 h2_1 rfl (by decide) (by decide) (by decide) rfl dX5_moves_28 (fun H locs hP hD hS => ?_)
              obtain ⟨ws3_, hws3_⟩ : ∃ z, z = (ws2_.set (si 1) (sd 1, .inl (ty 0, 3, .inl (fa (ug (ug (ug w 0 to) 1 to) 2 to))))) := ⟨_, rfl⟩
              replace hP : va_P G gcl ws3_ H := by rw [hws3_]; exact hP
              replace hD : va_D A ws3_ := by rw [hws3_]; exact hD
              have h3_0 : ws3_[(si 0)]? = some (sd 0, .inr (2, [.ref (sd 1), .ref (sd 2)])) := by rw [hws3_]; exact gs_n n_si1_si0 h2_0
              have h3_1 : ws3_[(si 1)]? = some (sd 1, .inl (ty 0, 3, .inl (fa (ug (ug (ug w 0 to) 1 to) 2 to)))) := by rw [hws3_]; exact gs_s h2_1
              have h3_2 : ws3_[(si 2)]? = some (sd 2, .inl (ty 0, 2, .inl (fa q))) := by rw [hws3_]; exact gs_n n_si1_si2 h2_2
              have h3_3 : ws3_[mi]? = some (md, .inr (4, [.int (ii st), .int (ii rp), .int (ii fr), .int (ii to)])) := by rw [hws3_]; exact gs_n n_si1_mi h2_3
              refine li_iinc (a := 2) (lv' := [(2, .int (ii 3)), (0, .ref md), (1, .ref (sd 0))]) hx hb dX5_moves_29 hl (k := 0) rfl (by decide) rfl (fun ls hl => ?_)
              refine lv_goto (tgt := 2) hx hb dX5_moves_32 (by decide) ?_
              refine lv_iload_n hx hb dX5_moves_2 rfl (lv_at hl 0 rfl) ?_
              refine li_iconst hx hb dX5_moves_3 ?_
              refine li_icmp_ge (tgt := 35) hx hb ⟨by decide, by decide⟩ ⟨by decide, by decide⟩ dX5_moves_4 (by decide) (fun c4 => ?_) (fun c4 => ?_)
              · exact eMv hQ hx hb hr hlk hP hD hS (Nat.le_of_ble_eq_true rfl) (Nat.le_of_ble_eq_true rfl) dX5_moves_35 (⟨rfl, by have e : (ug (ug (ug w 0 to) 1 to) 2 to) = mvw st to w := (by funext i; simp only [mvw, ug]; omega); rw [hws3_, hws2_, hws1_]; (try simp only [List.set_set]); rw [e]⟩)
              · exact absurd c4 (by decide)
set_option maxHeartbeats 4000000 in
theorem m_does0_5 (l : Launch) (G : va_G) (ty : Nat → ClassId) (ws : va_W) (si sd : Nat → Nat) (w q : Int → Int) (mi md : Nat) (st rp fr to : Int)  (hSp : spotAt ty ws si sd w q) (hM : moveAt ws 4 mi md st rp fr to) (hm : 0 ≤ st ∧ st ≤ 7 ∧ 0 ≤ rp ∧ rp ≤ 1 ∧ 0 ≤ fr ∧ fr ≤ 4 ∧ 0 ≤ to ∧ to ≤ 4) (n_si1_si0 : (si 1) ≠ (si 0)) (n_si1_si2 : (si 1) ≠ (si 2)) (n_si1_mi : (si 1) ≠ mi) : cM l yX5_does (ws_ yX5_does cX5_does 2 none) (rm4 1 0 0 22) G ty (ws) [.ref md, .ref (sd 0)] 0 0 (fun r W' => r = none ∧ W' = ws.set (si 1) (sd 1, .inl (ty 0, 3, .inl (fa (mvw st to w))))) := by
  refine cM.of (by decide) (Nat.le_of_ble_eq_true rfl) ?_
  intro p e s m args below meth c A Q H locs hQ hx hb hr hml hown hlk hname hts hK hP hD hS hA hX ls hl
  have hl : lv_has ls 2 [(0, .ref md), (1, .ref (sd 0))] := hl
  refine lv_aload_n hx hb dX5_does_0 rfl (lv_at hl 0 rfl) ?_
  refine lv_aload_n hx hb dX5_does_1 rfl (lv_at hl 1 rfl) ?_
  refine kM (va_runV (As := [.ref (sd 0)]) (rest := []) ⟨hx, hb, hml, hown, hts⟩ ((m_moves_5 l G ty ws si sd w q mi md st rp fr to hSp hM hm n_si1_si0 n_si1_si2 n_si1_mi) H.size) (cwV 1 hts (lw_V q515 q516 q517 q80 q525) rfl rfl rfl (by decide +kernel) ⟨Nat.le_of_ble_eq_true rfl, Nat.le_of_ble_eq_true rfl⟩) (pvM (r := (RX5, TX5, 4)) hK hP hD hX mi hM rfl) rfl rfl hl.1 rfl (lv_room (Nat.le_of_ble_eq_true rfl)) dX5_does_2 ⟨Nat.le_of_ble_eq_true rfl, Nat.le_of_ble_eq_true rfl⟩) hD hS hA (fun v ws1 H locs hv hP hD hS => ?_)
  obtain ⟨rfl, rfl⟩ := hv
  obtain ⟨ws1_, hws1_⟩ : ∃ z, z = (ws.set (si 1) (sd 1, .inl (ty 0, 3, .inl (fa (mvw st to w))))) := ⟨_, rfl⟩
  replace hP : va_P G gcl ws1_ H := by rw [hws1_]; exact hP
  replace hD : va_D A ws1_ := by rw [hws1_]; exact hD
  have h1_0 : ws1_[(si 0)]? = some (sd 0, .inr (2, [.ref (sd 1), .ref (sd 2)])) := by rw [hws1_]; exact gs_n n_si1_si0 hSp.1
  have h1_1 : ws1_[(si 1)]? = some (sd 1, .inl (ty 0, 3, .inl (fa (mvw st to w)))) := by rw [hws1_]; exact gs_s hSp.2.1
  have h1_2 : ws1_[(si 2)]? = some (sd 2, .inl (ty 0, 2, .inl (fa q))) := by rw [hws1_]; exact gs_n n_si1_si2 hSp.2.2
  have h1_3 : ws1_[mi]? = some (md, .inr (4, [.int (ii st), .int (ii rp), .int (ii fr), .int (ii to)])) := by rw [hws1_]; exact gs_n n_si1_mi hM
  exact eMv hQ hx hb hr hlk hP hD hS (Nat.le_of_ble_eq_true rfl) (Nat.le_of_ble_eq_true rfl) dX5_does_5 (⟨rfl, by rw [hws1_]⟩)
set_option maxHeartbeats 4000000 in
theorem m_moves_6 (l : Launch) (G : va_G) (ty : Nat → ClassId) (ws : va_W) (si sd : Nat → Nat) (w q : Int → Int) (mi md : Nat) (st rp fr to : Int)  (hSp : spotAt ty ws si sd w q) (hM : moveAt ws 5 mi md st rp fr to) (hm : 0 ≤ st ∧ st ≤ 7 ∧ 0 ≤ rp ∧ rp ≤ 1 ∧ 0 ≤ fr ∧ fr ≤ 4 ∧ 0 ≤ to ∧ to ≤ 4) (n_si1_si0 : (si 1) ≠ (si 0)) (n_si1_si2 : (si 1) ≠ (si 2)) (n_si1_mi : (si 1) ≠ mi) : cM l yX5_moves (ws_ yX5_moves cX5_moves 3 none) (rm4 0 0 0 0) G ty (ws) [.ref md, .ref (sd 0)] 0 0 (fun r W' => r = none ∧ W' = ws.set (si 1) (sd 1, .inl (ty 0, 3, .inl (fa (mvw st to w))))) := by
  refine cM.of (by decide) (Nat.le_of_ble_eq_true rfl) ?_
  intro p e s m args below meth c A Q H locs hQ hx hb hr hml hown hlk hname hts hK hP hD hS hA hX ls hl
  have hl : lv_has ls 3 [(0, .ref md), (1, .ref (sd 0))] := hl
  obtain ⟨hm0, hm1, hm2, hm3, hm4, hm5, hm6, hm7⟩ := id hm
  refine li_iconst hx hb dX5_moves_0 ?_
  refine lv_istore_n (lv' := [(2, .int (ii 0)), (0, .ref md), (1, .ref (sd 0))]) hx hb dX5_moves_1 rfl hl (by decide) rfl (fun ls hl => ?_)
  refine lv_iload_n hx hb dX5_moves_2 rfl (lv_at hl 0 rfl) ?_
  refine li_iconst hx hb dX5_moves_3 ?_
  refine li_icmp_ge (tgt := 35) hx hb ⟨by decide, by decide⟩ ⟨by decide, by decide⟩ dX5_moves_4 (by decide) (fun c4 => ?_) (fun c4 => ?_)
  · exact absurd c4 (by decide)
  · refine lv_aload_n hx hb dX5_moves_7 rfl (lv_at hl 1 rfl) ?_
    refine va_get (D := G) (fs := [.int (ii st), .int (ii rp), .int (ii fr), .int (ii to)]) (ci := 5) (v := .int (ii st)) (C := RX6) (T := TX6) (N := 4) hx hb hts in_X6 hown hK hP mi hM rfl 0 (by decide) (hts _ q861) (fun _ h9 => h9) rfl dX5_moves_8 ?_
    refine lv_iload_n hx hb dX5_moves_11 rfl (lv_at hl 0 rfl) ?_
    refine lv_ishr hx hb dX5_moves_12 ?_
    refine li_topx (z := st) (ii_shr0 (by omega) (by omega)) ?_
    refine li_iconst hx hb dX5_moves_13 ?_
    refine lv_iand hx hb dX5_moves_14 ?_
    refine li_topx (z := st % 2) (ii_and1 (by omega) (by omega)) ?_
    refine li_iconst hx hb dX5_moves_15 ?_
    refine li_icmp_ne (tgt := 29) hx hb ⟨by omega, by omega⟩ ⟨by decide, by decide⟩ dX5_moves_16 (by decide) (fun c16 => ?_) (fun c16 => ?_)
    · refine li_iinc (a := 0) (lv' := [(2, .int (ii 1)), (0, .ref md), (1, .ref (sd 0))]) hx hb dX5_moves_29 hl (k := 0) rfl (by decide) rfl (fun ls hl => ?_)
      refine lv_goto (tgt := 2) hx hb dX5_moves_32 (by decide) ?_
      refine lv_iload_n hx hb dX5_moves_2 rfl (lv_at hl 0 rfl) ?_
      refine li_iconst hx hb dX5_moves_3 ?_
      refine li_icmp_ge (tgt := 35) hx hb ⟨by decide, by decide⟩ ⟨by decide, by decide⟩ dX5_moves_4 (by decide) (fun c4 => ?_) (fun c4 => ?_)
      · exact absurd c4 (by decide)
      · refine lv_aload_n hx hb dX5_moves_7 rfl (lv_at hl 1 rfl) ?_
        refine va_get (D := G) (fs := [.int (ii st), .int (ii rp), .int (ii fr), .int (ii to)]) (ci := 5) (v := .int (ii st)) (C := RX6) (T := TX6) (N := 4) hx hb hts in_X6 hown hK hP mi hM rfl 0 (by decide) (hts _ q861) (fun _ h9 => h9) rfl dX5_moves_8 ?_
        refine lv_iload_n hx hb dX5_moves_11 rfl (lv_at hl 0 rfl) ?_
        refine lv_ishr hx hb dX5_moves_12 ?_
        refine li_topx (z := st / 2) (ii_shr1 (by omega) (by omega)) ?_
        refine li_iconst hx hb dX5_moves_13 ?_
        refine lv_iand hx hb dX5_moves_14 ?_
        refine li_topx (z := (st / 2) % 2) (ii_and1 (by omega) (by omega)) ?_
        refine li_iconst hx hb dX5_moves_15 ?_
        refine li_icmp_ne (tgt := 29) hx hb ⟨by omega, by omega⟩ ⟨by decide, by decide⟩ dX5_moves_16 (by decide) (fun c16 => ?_) (fun c16 => ?_)
        · refine li_iinc (a := 1) (lv' := [(2, .int (ii 2)), (0, .ref md), (1, .ref (sd 0))]) hx hb dX5_moves_29 hl (k := 0) rfl (by decide) rfl (fun ls hl => ?_)
          refine lv_goto (tgt := 2) hx hb dX5_moves_32 (by decide) ?_
          refine lv_iload_n hx hb dX5_moves_2 rfl (lv_at hl 0 rfl) ?_
          refine li_iconst hx hb dX5_moves_3 ?_
          refine li_icmp_ge (tgt := 35) hx hb ⟨by decide, by decide⟩ ⟨by decide, by decide⟩ dX5_moves_4 (by decide) (fun c4 => ?_) (fun c4 => ?_)
          · exact absurd c4 (by decide)
          · refine lv_aload_n hx hb dX5_moves_7 rfl (lv_at hl 1 rfl) ?_
            refine va_get (D := G) (fs := [.int (ii st), .int (ii rp), .int (ii fr), .int (ii to)]) (ci := 5) (v := .int (ii st)) (C := RX6) (T := TX6) (N := 4) hx hb hts in_X6 hown hK hP mi hM rfl 0 (by decide) (hts _ q861) (fun _ h9 => h9) rfl dX5_moves_8 ?_
            refine lv_iload_n hx hb dX5_moves_11 rfl (lv_at hl 0 rfl) ?_
            refine lv_ishr hx hb dX5_moves_12 ?_
            refine li_topx (z := st / 4) (ii_shr2 (by omega) (by omega)) ?_
            refine li_iconst hx hb dX5_moves_13 ?_
            refine lv_iand hx hb dX5_moves_14 ?_
            refine li_topx (z := (st / 4) % 2) (ii_and1 (by omega) (by omega)) ?_
            refine li_iconst hx hb dX5_moves_15 ?_
            refine li_icmp_ne (tgt := 29) hx hb ⟨by omega, by omega⟩ ⟨by decide, by decide⟩ dX5_moves_16 (by decide) (fun c16 => ?_) (fun c16 => ?_)
            · refine li_iinc (a := 2) (lv' := [(2, .int (ii 3)), (0, .ref md), (1, .ref (sd 0))]) hx hb dX5_moves_29 hl (k := 0) rfl (by decide) rfl (fun ls hl => ?_)
              refine lv_goto (tgt := 2) hx hb dX5_moves_32 (by decide) ?_
              refine lv_iload_n hx hb dX5_moves_2 rfl (lv_at hl 0 rfl) ?_
              refine li_iconst hx hb dX5_moves_3 ?_
              refine li_icmp_ge (tgt := 35) hx hb ⟨by decide, by decide⟩ ⟨by decide, by decide⟩ dX5_moves_4 (by decide) (fun c4 => ?_) (fun c4 => ?_)
              · exact eMv hQ hx hb hr hlk hP hD hS (Nat.le_of_ble_eq_true rfl) (Nat.le_of_ble_eq_true rfl) dX5_moves_35 (⟨rfl, by have e : (w) = mvw st to w := (by funext i; simp only [mvw, ug]; omega); rw [← e]; exact (set_same hSp.2.1).symm⟩)
              · exact absurd c4 (by decide)
            · refine lv_aload_n hx hb dX5_moves_19 rfl (lv_at hl 2 rfl) ?_
              refine va_get (D := G) (fs := [.ref (sd 1), .ref (sd 2)]) (ci := 2) (v := .ref (sd 1)) (C := RX3) (T := TX3) (N := 2) hx hb hts in_X3 hown hK hP (si 0) hSp.1 rfl 0 (by decide) (hts _ q655) (fun _ h9 => h9) rfl dX5_moves_20 ?_
              refine lv_iload_n hx hb dX5_moves_23 rfl (lv_at hl 0 rfl) ?_
              refine lv_aload_n hx hb dX5_moves_24 rfl (lv_at hl 1 rfl) ?_
              refine va_get (D := G) (fs := [.int (ii st), .int (ii rp), .int (ii fr), .int (ii to)]) (ci := 5) (v := .int (ii to)) (C := RX6) (T := TX6) (N := 4) hx hb hts in_X6 hown hK hP mi hM rfl 3 (by decide) (hts _ q900) (fun _ h9 => h9) rfl dX5_moves_25 ?_
              refine li_iast (g := w) (W2 := (ws.set (si 1) (sd 1, .inl (ty 0, 3, .inl (fa (ug w 2 to)))))) hx hb hK hP hD hS (si 1) 0 hSp.2.1 rfl (by decide) (by decide) (by decide) rfl dX5_moves_28 (fun H locs hP hD hS => ?_)
              obtain ⟨ws1_, hws1_⟩ : ∃ z, z = (ws.set (si 1) (sd 1, .inl (ty 0, 3, .inl (fa (ug w 2 to))))) := ⟨_, rfl⟩
              replace hP : va_P G gcl ws1_ H := by rw [hws1_]; exact hP
              replace hD : va_D A ws1_ := by rw [hws1_]; exact hD
              have h1_0 : ws1_[(si 0)]? = some (sd 0, .inr (2, [.ref (sd 1), .ref (sd 2)])) := by rw [hws1_]; exact gs_n n_si1_si0 hSp.1
              have h1_1 : ws1_[(si 1)]? = some (sd 1, .inl (ty 0, 3, .inl (fa (ug w 2 to)))) := by rw [hws1_]; exact gs_s hSp.2.1
              have h1_2 : ws1_[(si 2)]? = some (sd 2, .inl (ty 0, 2, .inl (fa q))) := by rw [hws1_]; exact gs_n n_si1_si2 hSp.2.2
              have h1_3 : ws1_[mi]? = some (md, .inr (5, [.int (ii st), .int (ii rp), .int (ii fr), .int (ii to)])) := by rw [hws1_]; exact gs_n n_si1_mi hM
              refine li_iinc (a := 2) (lv' := [(2, .int (ii 3)), (0, .ref md), (1, .ref (sd 0))]) hx hb dX5_moves_29 hl (k := 0) rfl (by decide) rfl (fun ls hl => ?_)
              refine lv_goto (tgt := 2) hx hb dX5_moves_32 (by decide) ?_
              refine lv_iload_n hx hb dX5_moves_2 rfl (lv_at hl 0 rfl) ?_
              refine li_iconst hx hb dX5_moves_3 ?_
              refine li_icmp_ge (tgt := 35) hx hb ⟨by decide, by decide⟩ ⟨by decide, by decide⟩ dX5_moves_4 (by decide) (fun c4 => ?_) (fun c4 => ?_)
              · exact eMv hQ hx hb hr hlk hP hD hS (Nat.le_of_ble_eq_true rfl) (Nat.le_of_ble_eq_true rfl) dX5_moves_35 (⟨rfl, by have e : (ug w 2 to) = mvw st to w := (by funext i; simp only [mvw, ug]; omega); rw [hws1_]; (try simp only [List.set_set]); rw [e]⟩)
              · exact absurd c4 (by decide)
        · refine lv_aload_n hx hb dX5_moves_19 rfl (lv_at hl 2 rfl) ?_
          refine va_get (D := G) (fs := [.ref (sd 1), .ref (sd 2)]) (ci := 2) (v := .ref (sd 1)) (C := RX3) (T := TX3) (N := 2) hx hb hts in_X3 hown hK hP (si 0) hSp.1 rfl 0 (by decide) (hts _ q655) (fun _ h9 => h9) rfl dX5_moves_20 ?_
          refine lv_iload_n hx hb dX5_moves_23 rfl (lv_at hl 0 rfl) ?_
          refine lv_aload_n hx hb dX5_moves_24 rfl (lv_at hl 1 rfl) ?_
          refine va_get (D := G) (fs := [.int (ii st), .int (ii rp), .int (ii fr), .int (ii to)]) (ci := 5) (v := .int (ii to)) (C := RX6) (T := TX6) (N := 4) hx hb hts in_X6 hown hK hP mi hM rfl 3 (by decide) (hts _ q900) (fun _ h9 => h9) rfl dX5_moves_25 ?_
          refine li_iast (g := w) (W2 := (ws.set (si 1) (sd 1, .inl (ty 0, 3, .inl (fa (ug w 1 to)))))) hx hb hK hP hD hS (si 1) 0 hSp.2.1 rfl (by decide) (by decide) (by decide) rfl dX5_moves_28 (fun H locs hP hD hS => ?_)
          obtain ⟨ws1_, hws1_⟩ : ∃ z, z = (ws.set (si 1) (sd 1, .inl (ty 0, 3, .inl (fa (ug w 1 to))))) := ⟨_, rfl⟩
          replace hP : va_P G gcl ws1_ H := by rw [hws1_]; exact hP
          replace hD : va_D A ws1_ := by rw [hws1_]; exact hD
          have h1_0 : ws1_[(si 0)]? = some (sd 0, .inr (2, [.ref (sd 1), .ref (sd 2)])) := by rw [hws1_]; exact gs_n n_si1_si0 hSp.1
          have h1_1 : ws1_[(si 1)]? = some (sd 1, .inl (ty 0, 3, .inl (fa (ug w 1 to)))) := by rw [hws1_]; exact gs_s hSp.2.1
          have h1_2 : ws1_[(si 2)]? = some (sd 2, .inl (ty 0, 2, .inl (fa q))) := by rw [hws1_]; exact gs_n n_si1_si2 hSp.2.2
          have h1_3 : ws1_[mi]? = some (md, .inr (5, [.int (ii st), .int (ii rp), .int (ii fr), .int (ii to)])) := by rw [hws1_]; exact gs_n n_si1_mi hM
          refine li_iinc (a := 1) (lv' := [(2, .int (ii 2)), (0, .ref md), (1, .ref (sd 0))]) hx hb dX5_moves_29 hl (k := 0) rfl (by decide) rfl (fun ls hl => ?_)
          refine lv_goto (tgt := 2) hx hb dX5_moves_32 (by decide) ?_
          refine lv_iload_n hx hb dX5_moves_2 rfl (lv_at hl 0 rfl) ?_
          refine li_iconst hx hb dX5_moves_3 ?_
          refine li_icmp_ge (tgt := 35) hx hb ⟨by decide, by decide⟩ ⟨by decide, by decide⟩ dX5_moves_4 (by decide) (fun c4 => ?_) (fun c4 => ?_)
          · exact absurd c4 (by decide)
          · refine lv_aload_n hx hb dX5_moves_7 rfl (lv_at hl 1 rfl) ?_
            refine va_get (D := G) (fs := [.int (ii st), .int (ii rp), .int (ii fr), .int (ii to)]) (ci := 5) (v := .int (ii st)) (C := RX6) (T := TX6) (N := 4) hx hb hts in_X6 hown hK hP mi h1_3 rfl 0 (by decide) (hts _ q861) (fun _ h9 => h9) rfl dX5_moves_8 ?_
            refine lv_iload_n hx hb dX5_moves_11 rfl (lv_at hl 0 rfl) ?_
            refine lv_ishr hx hb dX5_moves_12 ?_
            refine li_topx (z := st / 4) (ii_shr2 (by omega) (by omega)) ?_
            refine li_iconst hx hb dX5_moves_13 ?_
            refine lv_iand hx hb dX5_moves_14 ?_
            refine li_topx (z := (st / 4) % 2) (ii_and1 (by omega) (by omega)) ?_
            refine li_iconst hx hb dX5_moves_15 ?_
            refine li_icmp_ne (tgt := 29) hx hb ⟨by omega, by omega⟩ ⟨by decide, by decide⟩ dX5_moves_16 (by decide) (fun c16 => ?_) (fun c16 => ?_)
            · refine li_iinc (a := 2) (lv' := [(2, .int (ii 3)), (0, .ref md), (1, .ref (sd 0))]) hx hb dX5_moves_29 hl (k := 0) rfl (by decide) rfl (fun ls hl => ?_)
              refine lv_goto (tgt := 2) hx hb dX5_moves_32 (by decide) ?_
              refine lv_iload_n hx hb dX5_moves_2 rfl (lv_at hl 0 rfl) ?_
              refine li_iconst hx hb dX5_moves_3 ?_
              refine li_icmp_ge (tgt := 35) hx hb ⟨by decide, by decide⟩ ⟨by decide, by decide⟩ dX5_moves_4 (by decide) (fun c4 => ?_) (fun c4 => ?_)
              · exact eMv hQ hx hb hr hlk hP hD hS (Nat.le_of_ble_eq_true rfl) (Nat.le_of_ble_eq_true rfl) dX5_moves_35 (⟨rfl, by have e : (ug w 1 to) = mvw st to w := (by funext i; simp only [mvw, ug]; omega); rw [hws1_]; (try simp only [List.set_set]); rw [e]⟩)
              · exact absurd c4 (by decide)
            · refine lv_aload_n hx hb dX5_moves_19 rfl (lv_at hl 2 rfl) ?_
              refine va_get (D := G) (fs := [.ref (sd 1), .ref (sd 2)]) (ci := 2) (v := .ref (sd 1)) (C := RX3) (T := TX3) (N := 2) hx hb hts in_X3 hown hK hP (si 0) h1_0 rfl 0 (by decide) (hts _ q655) (fun _ h9 => h9) rfl dX5_moves_20 ?_
              refine lv_iload_n hx hb dX5_moves_23 rfl (lv_at hl 0 rfl) ?_
              refine lv_aload_n hx hb dX5_moves_24 rfl (lv_at hl 1 rfl) ?_
              refine va_get (D := G) (fs := [.int (ii st), .int (ii rp), .int (ii fr), .int (ii to)]) (ci := 5) (v := .int (ii to)) (C := RX6) (T := TX6) (N := 4) hx hb hts in_X6 hown hK hP mi h1_3 rfl 3 (by decide) (hts _ q900) (fun _ h9 => h9) rfl dX5_moves_25 ?_
              refine li_iast (g := ug w 1 to) (W2 := (ws1_.set (si 1) (sd 1, .inl (ty 0, 3, .inl (fa (ug (ug w 1 to) 2 to)))))) hx hb hK hP hD hS (si 1) 0 h1_1 rfl (by decide) (by decide) (by decide) rfl dX5_moves_28 (fun H locs hP hD hS => ?_)
              obtain ⟨ws2_, hws2_⟩ : ∃ z, z = (ws1_.set (si 1) (sd 1, .inl (ty 0, 3, .inl (fa (ug (ug w 1 to) 2 to))))) := ⟨_, rfl⟩
              replace hP : va_P G gcl ws2_ H := by rw [hws2_]; exact hP
              replace hD : va_D A ws2_ := by rw [hws2_]; exact hD
              have h2_0 : ws2_[(si 0)]? = some (sd 0, .inr (2, [.ref (sd 1), .ref (sd 2)])) := by rw [hws2_]; exact gs_n n_si1_si0 h1_0
              have h2_1 : ws2_[(si 1)]? = some (sd 1, .inl (ty 0, 3, .inl (fa (ug (ug w 1 to) 2 to)))) := by rw [hws2_]; exact gs_s h1_1
              have h2_2 : ws2_[(si 2)]? = some (sd 2, .inl (ty 0, 2, .inl (fa q))) := by rw [hws2_]; exact gs_n n_si1_si2 h1_2
              have h2_3 : ws2_[mi]? = some (md, .inr (5, [.int (ii st), .int (ii rp), .int (ii fr), .int (ii to)])) := by rw [hws2_]; exact gs_n n_si1_mi h1_3
              refine li_iinc (a := 2) (lv' := [(2, .int (ii 3)), (0, .ref md), (1, .ref (sd 0))]) hx hb dX5_moves_29 hl (k := 0) rfl (by decide) rfl (fun ls hl => ?_)
              refine lv_goto (tgt := 2) hx hb dX5_moves_32 (by decide) ?_
              refine lv_iload_n hx hb dX5_moves_2 rfl (lv_at hl 0 rfl) ?_
              refine li_iconst hx hb dX5_moves_3 ?_
              refine li_icmp_ge (tgt := 35) hx hb ⟨by decide, by decide⟩ ⟨by decide, by decide⟩ dX5_moves_4 (by decide) (fun c4 => ?_) (fun c4 => ?_)
              · exact eMv hQ hx hb hr hlk hP hD hS (Nat.le_of_ble_eq_true rfl) (Nat.le_of_ble_eq_true rfl) dX5_moves_35 (⟨rfl, by have e : (ug (ug w 1 to) 2 to) = mvw st to w := (by funext i; simp only [mvw, ug]; omega); rw [hws2_, hws1_]; (try simp only [List.set_set]); rw [e]⟩)
              · exact absurd c4 (by decide)
    · refine lv_aload_n hx hb dX5_moves_19 rfl (lv_at hl 2 rfl) ?_
      refine va_get (D := G) (fs := [.ref (sd 1), .ref (sd 2)]) (ci := 2) (v := .ref (sd 1)) (C := RX3) (T := TX3) (N := 2) hx hb hts in_X3 hown hK hP (si 0) hSp.1 rfl 0 (by decide) (hts _ q655) (fun _ h9 => h9) rfl dX5_moves_20 ?_
      refine lv_iload_n hx hb dX5_moves_23 rfl (lv_at hl 0 rfl) ?_
      refine lv_aload_n hx hb dX5_moves_24 rfl (lv_at hl 1 rfl) ?_
      refine va_get (D := G) (fs := [.int (ii st), .int (ii rp), .int (ii fr), .int (ii to)]) (ci := 5) (v := .int (ii to)) (C := RX6) (T := TX6) (N := 4) hx hb hts in_X6 hown hK hP mi hM rfl 3 (by decide) (hts _ q900) (fun _ h9 => h9) rfl dX5_moves_25 ?_
      refine li_iast (g := w) (W2 := (ws.set (si 1) (sd 1, .inl (ty 0, 3, .inl (fa (ug w 0 to)))))) hx hb hK hP hD hS (si 1) 0 hSp.2.1 rfl (by decide) (by decide) (by decide) rfl dX5_moves_28 (fun H locs hP hD hS => ?_)
      obtain ⟨ws1_, hws1_⟩ : ∃ z, z = (ws.set (si 1) (sd 1, .inl (ty 0, 3, .inl (fa (ug w 0 to))))) := ⟨_, rfl⟩
      replace hP : va_P G gcl ws1_ H := by rw [hws1_]; exact hP
      replace hD : va_D A ws1_ := by rw [hws1_]; exact hD
      have h1_0 : ws1_[(si 0)]? = some (sd 0, .inr (2, [.ref (sd 1), .ref (sd 2)])) := by rw [hws1_]; exact gs_n n_si1_si0 hSp.1
      have h1_1 : ws1_[(si 1)]? = some (sd 1, .inl (ty 0, 3, .inl (fa (ug w 0 to)))) := by rw [hws1_]; exact gs_s hSp.2.1
      have h1_2 : ws1_[(si 2)]? = some (sd 2, .inl (ty 0, 2, .inl (fa q))) := by rw [hws1_]; exact gs_n n_si1_si2 hSp.2.2
      have h1_3 : ws1_[mi]? = some (md, .inr (5, [.int (ii st), .int (ii rp), .int (ii fr), .int (ii to)])) := by rw [hws1_]; exact gs_n n_si1_mi hM
      refine li_iinc (a := 0) (lv' := [(2, .int (ii 1)), (0, .ref md), (1, .ref (sd 0))]) hx hb dX5_moves_29 hl (k := 0) rfl (by decide) rfl (fun ls hl => ?_)
      refine lv_goto (tgt := 2) hx hb dX5_moves_32 (by decide) ?_
      refine lv_iload_n hx hb dX5_moves_2 rfl (lv_at hl 0 rfl) ?_
      refine li_iconst hx hb dX5_moves_3 ?_
      refine li_icmp_ge (tgt := 35) hx hb ⟨by decide, by decide⟩ ⟨by decide, by decide⟩ dX5_moves_4 (by decide) (fun c4 => ?_) (fun c4 => ?_)
      · exact absurd c4 (by decide)
      · refine lv_aload_n hx hb dX5_moves_7 rfl (lv_at hl 1 rfl) ?_
        refine va_get (D := G) (fs := [.int (ii st), .int (ii rp), .int (ii fr), .int (ii to)]) (ci := 5) (v := .int (ii st)) (C := RX6) (T := TX6) (N := 4) hx hb hts in_X6 hown hK hP mi h1_3 rfl 0 (by decide) (hts _ q861) (fun _ h9 => h9) rfl dX5_moves_8 ?_
        refine lv_iload_n hx hb dX5_moves_11 rfl (lv_at hl 0 rfl) ?_
        refine lv_ishr hx hb dX5_moves_12 ?_
        refine li_topx (z := st / 2) (ii_shr1 (by omega) (by omega)) ?_
        refine li_iconst hx hb dX5_moves_13 ?_
        refine lv_iand hx hb dX5_moves_14 ?_
        refine li_topx (z := (st / 2) % 2) (ii_and1 (by omega) (by omega)) ?_
        refine li_iconst hx hb dX5_moves_15 ?_
        refine li_icmp_ne (tgt := 29) hx hb ⟨by omega, by omega⟩ ⟨by decide, by decide⟩ dX5_moves_16 (by decide) (fun c16 => ?_) (fun c16 => ?_)
        · refine li_iinc (a := 1) (lv' := [(2, .int (ii 2)), (0, .ref md), (1, .ref (sd 0))]) hx hb dX5_moves_29 hl (k := 0) rfl (by decide) rfl (fun ls hl => ?_)
          refine lv_goto (tgt := 2) hx hb dX5_moves_32 (by decide) ?_
          refine lv_iload_n hx hb dX5_moves_2 rfl (lv_at hl 0 rfl) ?_
          refine li_iconst hx hb dX5_moves_3 ?_
          refine li_icmp_ge (tgt := 35) hx hb ⟨by decide, by decide⟩ ⟨by decide, by decide⟩ dX5_moves_4 (by decide) (fun c4 => ?_) (fun c4 => ?_)
          · exact absurd c4 (by decide)
          · refine lv_aload_n hx hb dX5_moves_7 rfl (lv_at hl 1 rfl) ?_
            refine va_get (D := G) (fs := [.int (ii st), .int (ii rp), .int (ii fr), .int (ii to)]) (ci := 5) (v := .int (ii st)) (C := RX6) (T := TX6) (N := 4) hx hb hts in_X6 hown hK hP mi h1_3 rfl 0 (by decide) (hts _ q861) (fun _ h9 => h9) rfl dX5_moves_8 ?_
            refine lv_iload_n hx hb dX5_moves_11 rfl (lv_at hl 0 rfl) ?_
            refine lv_ishr hx hb dX5_moves_12 ?_
            refine li_topx (z := st / 4) (ii_shr2 (by omega) (by omega)) ?_
            refine li_iconst hx hb dX5_moves_13 ?_
            refine lv_iand hx hb dX5_moves_14 ?_
            refine li_topx (z := (st / 4) % 2) (ii_and1 (by omega) (by omega)) ?_
            refine li_iconst hx hb dX5_moves_15 ?_
            refine li_icmp_ne (tgt := 29) hx hb ⟨by omega, by omega⟩ ⟨by decide, by decide⟩ dX5_moves_16 (by decide) (fun c16 => ?_) (fun c16 => ?_)
            · refine li_iinc (a := 2) (lv' := [(2, .int (ii 3)), (0, .ref md), (1, .ref (sd 0))]) hx hb dX5_moves_29 hl (k := 0) rfl (by decide) rfl (fun ls hl => ?_)
              refine lv_goto (tgt := 2) hx hb dX5_moves_32 (by decide) ?_
              refine lv_iload_n hx hb dX5_moves_2 rfl (lv_at hl 0 rfl) ?_
              refine li_iconst hx hb dX5_moves_3 ?_
              refine li_icmp_ge (tgt := 35) hx hb ⟨by decide, by decide⟩ ⟨by decide, by decide⟩ dX5_moves_4 (by decide) (fun c4 => ?_) (fun c4 => ?_)
              · exact eMv hQ hx hb hr hlk hP hD hS (Nat.le_of_ble_eq_true rfl) (Nat.le_of_ble_eq_true rfl) dX5_moves_35 (⟨rfl, by have e : (ug w 0 to) = mvw st to w := (by funext i; simp only [mvw, ug]; omega); rw [hws1_]; (try simp only [List.set_set]); rw [e]⟩)
              · exact absurd c4 (by decide)
            · refine lv_aload_n hx hb dX5_moves_19 rfl (lv_at hl 2 rfl) ?_
              refine va_get (D := G) (fs := [.ref (sd 1), .ref (sd 2)]) (ci := 2) (v := .ref (sd 1)) (C := RX3) (T := TX3) (N := 2) hx hb hts in_X3 hown hK hP (si 0) h1_0 rfl 0 (by decide) (hts _ q655) (fun _ h9 => h9) rfl dX5_moves_20 ?_
              refine lv_iload_n hx hb dX5_moves_23 rfl (lv_at hl 0 rfl) ?_
              refine lv_aload_n hx hb dX5_moves_24 rfl (lv_at hl 1 rfl) ?_
              refine va_get (D := G) (fs := [.int (ii st), .int (ii rp), .int (ii fr), .int (ii to)]) (ci := 5) (v := .int (ii to)) (C := RX6) (T := TX6) (N := 4) hx hb hts in_X6 hown hK hP mi h1_3 rfl 3 (by decide) (hts _ q900) (fun _ h9 => h9) rfl dX5_moves_25 ?_
              refine li_iast (g := ug w 0 to) (W2 := (ws1_.set (si 1) (sd 1, .inl (ty 0, 3, .inl (fa (ug (ug w 0 to) 2 to)))))) hx hb hK hP hD hS (si 1) 0 h1_1 rfl (by decide) (by decide) (by decide) rfl dX5_moves_28 (fun H locs hP hD hS => ?_)
              obtain ⟨ws2_, hws2_⟩ : ∃ z, z = (ws1_.set (si 1) (sd 1, .inl (ty 0, 3, .inl (fa (ug (ug w 0 to) 2 to))))) := ⟨_, rfl⟩
              replace hP : va_P G gcl ws2_ H := by rw [hws2_]; exact hP
              replace hD : va_D A ws2_ := by rw [hws2_]; exact hD
              have h2_0 : ws2_[(si 0)]? = some (sd 0, .inr (2, [.ref (sd 1), .ref (sd 2)])) := by rw [hws2_]; exact gs_n n_si1_si0 h1_0
              have h2_1 : ws2_[(si 1)]? = some (sd 1, .inl (ty 0, 3, .inl (fa (ug (ug w 0 to) 2 to)))) := by rw [hws2_]; exact gs_s h1_1
              have h2_2 : ws2_[(si 2)]? = some (sd 2, .inl (ty 0, 2, .inl (fa q))) := by rw [hws2_]; exact gs_n n_si1_si2 h1_2
              have h2_3 : ws2_[mi]? = some (md, .inr (5, [.int (ii st), .int (ii rp), .int (ii fr), .int (ii to)])) := by rw [hws2_]; exact gs_n n_si1_mi h1_3
              refine li_iinc (a := 2) (lv' := [(2, .int (ii 3)), (0, .ref md), (1, .ref (sd 0))]) hx hb dX5_moves_29 hl (k := 0) rfl (by decide) rfl (fun ls hl => ?_)
              refine lv_goto (tgt := 2) hx hb dX5_moves_32 (by decide) ?_
              refine lv_iload_n hx hb dX5_moves_2 rfl (lv_at hl 0 rfl) ?_
              refine li_iconst hx hb dX5_moves_3 ?_
              refine li_icmp_ge (tgt := 35) hx hb ⟨by decide, by decide⟩ ⟨by decide, by decide⟩ dX5_moves_4 (by decide) (fun c4 => ?_) (fun c4 => ?_)
              · exact eMv hQ hx hb hr hlk hP hD hS (Nat.le_of_ble_eq_true rfl) (Nat.le_of_ble_eq_true rfl) dX5_moves_35 (⟨rfl, by have e : (ug (ug w 0 to) 2 to) = mvw st to w := (by funext i; simp only [mvw, ug]; omega); rw [hws2_, hws1_]; (try simp only [List.set_set]); rw [e]⟩)
              · exact absurd c4 (by decide)
        · refine lv_aload_n hx hb dX5_moves_19 rfl (lv_at hl 2 rfl) ?_
          refine va_get (D := G) (fs := [.ref (sd 1), .ref (sd 2)]) (ci := 2) (v := .ref (sd 1)) (C := RX3) (T := TX3) (N := 2) hx hb hts in_X3 hown hK hP (si 0) h1_0 rfl 0 (by decide) (hts _ q655) (fun _ h9 => h9) rfl dX5_moves_20 ?_
          refine lv_iload_n hx hb dX5_moves_23 rfl (lv_at hl 0 rfl) ?_
          refine lv_aload_n hx hb dX5_moves_24 rfl (lv_at hl 1 rfl) ?_
          refine va_get (D := G) (fs := [.int (ii st), .int (ii rp), .int (ii fr), .int (ii to)]) (ci := 5) (v := .int (ii to)) (C := RX6) (T := TX6) (N := 4) hx hb hts in_X6 hown hK hP mi h1_3 rfl 3 (by decide) (hts _ q900) (fun _ h9 => h9) rfl dX5_moves_25 ?_
          refine li_iast (g := ug w 0 to) (W2 := (ws1_.set (si 1) (sd 1, .inl (ty 0, 3, .inl (fa (ug (ug w 0 to) 1 to)))))) hx hb hK hP hD hS (si 1) 0 h1_1 rfl (by decide) (by decide) (by decide) rfl dX5_moves_28 (fun H locs hP hD hS => ?_)
          obtain ⟨ws2_, hws2_⟩ : ∃ z, z = (ws1_.set (si 1) (sd 1, .inl (ty 0, 3, .inl (fa (ug (ug w 0 to) 1 to))))) := ⟨_, rfl⟩
          replace hP : va_P G gcl ws2_ H := by rw [hws2_]; exact hP
          replace hD : va_D A ws2_ := by rw [hws2_]; exact hD
          have h2_0 : ws2_[(si 0)]? = some (sd 0, .inr (2, [.ref (sd 1), .ref (sd 2)])) := by rw [hws2_]; exact gs_n n_si1_si0 h1_0
          have h2_1 : ws2_[(si 1)]? = some (sd 1, .inl (ty 0, 3, .inl (fa (ug (ug w 0 to) 1 to)))) := by rw [hws2_]; exact gs_s h1_1
          have h2_2 : ws2_[(si 2)]? = some (sd 2, .inl (ty 0, 2, .inl (fa q))) := by rw [hws2_]; exact gs_n n_si1_si2 h1_2
          have h2_3 : ws2_[mi]? = some (md, .inr (5, [.int (ii st), .int (ii rp), .int (ii fr), .int (ii to)])) := by rw [hws2_]; exact gs_n n_si1_mi h1_3
          refine li_iinc (a := 1) (lv' := [(2, .int (ii 2)), (0, .ref md), (1, .ref (sd 0))]) hx hb dX5_moves_29 hl (k := 0) rfl (by decide) rfl (fun ls hl => ?_)
          refine lv_goto (tgt := 2) hx hb dX5_moves_32 (by decide) ?_
          refine lv_iload_n hx hb dX5_moves_2 rfl (lv_at hl 0 rfl) ?_
          refine li_iconst hx hb dX5_moves_3 ?_
          refine li_icmp_ge (tgt := 35) hx hb ⟨by decide, by decide⟩ ⟨by decide, by decide⟩ dX5_moves_4 (by decide) (fun c4 => ?_) (fun c4 => ?_)
          · exact absurd c4 (by decide)
          · refine lv_aload_n hx hb dX5_moves_7 rfl (lv_at hl 1 rfl) ?_
            refine va_get (D := G) (fs := [.int (ii st), .int (ii rp), .int (ii fr), .int (ii to)]) (ci := 5) (v := .int (ii st)) (C := RX6) (T := TX6) (N := 4) hx hb hts in_X6 hown hK hP mi h2_3 rfl 0 (by decide) (hts _ q861) (fun _ h9 => h9) rfl dX5_moves_8 ?_
            refine lv_iload_n hx hb dX5_moves_11 rfl (lv_at hl 0 rfl) ?_
            refine lv_ishr hx hb dX5_moves_12 ?_
            refine li_topx (z := st / 4) (ii_shr2 (by omega) (by omega)) ?_
            refine li_iconst hx hb dX5_moves_13 ?_
            refine lv_iand hx hb dX5_moves_14 ?_
            refine li_topx (z := (st / 4) % 2) (ii_and1 (by omega) (by omega)) ?_
            refine li_iconst hx hb dX5_moves_15 ?_
            refine li_icmp_ne (tgt := 29) hx hb ⟨by omega, by omega⟩ ⟨by decide, by decide⟩ dX5_moves_16 (by decide) (fun c16 => ?_) (fun c16 => ?_)
            · refine li_iinc (a := 2) (lv' := [(2, .int (ii 3)), (0, .ref md), (1, .ref (sd 0))]) hx hb dX5_moves_29 hl (k := 0) rfl (by decide) rfl (fun ls hl => ?_)
              refine lv_goto (tgt := 2) hx hb dX5_moves_32 (by decide) ?_
              refine lv_iload_n hx hb dX5_moves_2 rfl (lv_at hl 0 rfl) ?_
              refine li_iconst hx hb dX5_moves_3 ?_
              refine li_icmp_ge (tgt := 35) hx hb ⟨by decide, by decide⟩ ⟨by decide, by decide⟩ dX5_moves_4 (by decide) (fun c4 => ?_) (fun c4 => ?_)
              · exact eMv hQ hx hb hr hlk hP hD hS (Nat.le_of_ble_eq_true rfl) (Nat.le_of_ble_eq_true rfl) dX5_moves_35 (⟨rfl, by have e : (ug (ug w 0 to) 1 to) = mvw st to w := (by funext i; simp only [mvw, ug]; omega); rw [hws2_, hws1_]; (try simp only [List.set_set]); rw [e]⟩)
              · exact absurd c4 (by decide)
            · refine lv_aload_n hx hb dX5_moves_19 rfl (lv_at hl 2 rfl) ?_
              refine va_get (D := G) (fs := [.ref (sd 1), .ref (sd 2)]) (ci := 2) (v := .ref (sd 1)) (C := RX3) (T := TX3) (N := 2) hx hb hts in_X3 hown hK hP (si 0) h2_0 rfl 0 (by decide) (hts _ q655) (fun _ h9 => h9) rfl dX5_moves_20 ?_
              refine lv_iload_n hx hb dX5_moves_23 rfl (lv_at hl 0 rfl) ?_
              refine lv_aload_n hx hb dX5_moves_24 rfl (lv_at hl 1 rfl) ?_
              refine va_get (D := G) (fs := [.int (ii st), .int (ii rp), .int (ii fr), .int (ii to)]) (ci := 5) (v := .int (ii to)) (C := RX6) (T := TX6) (N := 4) hx hb hts in_X6 hown hK hP mi h2_3 rfl 3 (by decide) (hts _ q900) (fun _ h9 => h9) rfl dX5_moves_25 ?_
              refine li_iast (g := ug (ug w 0 to) 1 to) (W2 := (ws2_.set (si 1) (sd 1, .inl (ty 0, 3, .inl (fa (ug (ug (ug w 0 to) 1 to) 2 to)))))) hx hb hK hP hD hS (si 1) 0 h2_1 rfl (by decide) (by decide) (by decide) rfl dX5_moves_28 (fun H locs hP hD hS => ?_)
              obtain ⟨ws3_, hws3_⟩ : ∃ z, z = (ws2_.set (si 1) (sd 1, .inl (ty 0, 3, .inl (fa (ug (ug (ug w 0 to) 1 to) 2 to))))) := ⟨_, rfl⟩
              replace hP : va_P G gcl ws3_ H := by rw [hws3_]; exact hP
              replace hD : va_D A ws3_ := by rw [hws3_]; exact hD
              have h3_0 : ws3_[(si 0)]? = some (sd 0, .inr (2, [.ref (sd 1), .ref (sd 2)])) := by rw [hws3_]; exact gs_n n_si1_si0 h2_0
              have h3_1 : ws3_[(si 1)]? = some (sd 1, .inl (ty 0, 3, .inl (fa (ug (ug (ug w 0 to) 1 to) 2 to)))) := by rw [hws3_]; exact gs_s h2_1
              have h3_2 : ws3_[(si 2)]? = some (sd 2, .inl (ty 0, 2, .inl (fa q))) := by rw [hws3_]; exact gs_n n_si1_si2 h2_2
              have h3_3 : ws3_[mi]? = some (md, .inr (5, [.int (ii st), .int (ii rp), .int (ii fr), .int (ii to)])) := by rw [hws3_]; exact gs_n n_si1_mi h2_3
              refine li_iinc (a := 2) (lv' := [(2, .int (ii 3)), (0, .ref md), (1, .ref (sd 0))]) hx hb dX5_moves_29 hl (k := 0) rfl (by decide) rfl (fun ls hl => ?_)
              refine lv_goto (tgt := 2) hx hb dX5_moves_32 (by decide) ?_
              refine lv_iload_n hx hb dX5_moves_2 rfl (lv_at hl 0 rfl) ?_
              refine li_iconst hx hb dX5_moves_3 ?_
              refine li_icmp_ge (tgt := 35) hx hb ⟨by decide, by decide⟩ ⟨by decide, by decide⟩ dX5_moves_4 (by decide) (fun c4 => ?_) (fun c4 => ?_)
              · exact eMv hQ hx hb hr hlk hP hD hS (Nat.le_of_ble_eq_true rfl) (Nat.le_of_ble_eq_true rfl) dX5_moves_35 (⟨rfl, by have e : (ug (ug (ug w 0 to) 1 to) 2 to) = mvw st to w := (by funext i; simp only [mvw, ug]; omega); rw [hws3_, hws2_, hws1_]; (try simp only [List.set_set]); rw [e]⟩)
              · exact absurd c4 (by decide)
set_option maxHeartbeats 4000000 in
theorem m_does0_6 (l : Launch) (G : va_G) (ty : Nat → ClassId) (ws : va_W) (si sd : Nat → Nat) (w q : Int → Int) (mi md : Nat) (st rp fr to : Int)  (hSp : spotAt ty ws si sd w q) (hM : moveAt ws 5 mi md st rp fr to) (hm : 0 ≤ st ∧ st ≤ 7 ∧ 0 ≤ rp ∧ rp ≤ 1 ∧ 0 ≤ fr ∧ fr ≤ 4 ∧ 0 ≤ to ∧ to ≤ 4) (n_si1_si0 : (si 1) ≠ (si 0)) (n_si1_si2 : (si 1) ≠ (si 2)) (n_si1_mi : (si 1) ≠ mi) : cM l yX5_does (ws_ yX5_does cX5_does 2 none) (rm4 1 0 0 22) G ty (ws) [.ref md, .ref (sd 0)] 0 0 (fun r W' => r = none ∧ W' = ws.set (si 1) (sd 1, .inl (ty 0, 3, .inl (fa (mvw st to w))))) := by
  refine cM.of (by decide) (Nat.le_of_ble_eq_true rfl) ?_
  intro p e s m args below meth c A Q H locs hQ hx hb hr hml hown hlk hname hts hK hP hD hS hA hX ls hl
  have hl : lv_has ls 2 [(0, .ref md), (1, .ref (sd 0))] := hl
  refine lv_aload_n hx hb dX5_does_0 rfl (lv_at hl 0 rfl) ?_
  refine lv_aload_n hx hb dX5_does_1 rfl (lv_at hl 1 rfl) ?_
  refine kM (va_runU (x := yX5_moves) (As := [.ref (sd 0)]) (rest := []) ⟨hx, hb, hml, hown, hts⟩ ((m_moves_6 l G ty ws si sd w q mi md st rp fr to hSp hM hm n_si1_si0 n_si1_si2 n_si1_mi) H.size) (va_cwU (own := "DownRope$Move") (index := 57) (C := "DownRope$Doubled") (owner := "DownRope$Move") (x := yX5_moves) (y := yX5_moves) 1 hts (lw_app (lw_in _ [515, 518, 520, 516, 80] (by decide +kernel) (by decide +kernel)) (lw_meth q525)) rfl rfl rfl rfl (by decide +kernel) ⟨Nat.le_of_ble_eq_true rfl, Nat.le_of_ble_eq_true rfl⟩) (pvM (r := (RX6, TX6, 4)) hK hP hD hX mi hM rfl) rfl rfl hl.1 rfl (lv_room (Nat.le_of_ble_eq_true rfl)) dX5_does_2 ⟨Nat.le_of_ble_eq_true rfl, Nat.le_of_ble_eq_true rfl⟩) hD hS hA (fun v ws1 H locs hv hP hD hS => ?_)
  obtain ⟨rfl, rfl⟩ := hv
  obtain ⟨ws1_, hws1_⟩ : ∃ z, z = (ws.set (si 1) (sd 1, .inl (ty 0, 3, .inl (fa (mvw st to w))))) := ⟨_, rfl⟩
  replace hP : va_P G gcl ws1_ H := by rw [hws1_]; exact hP
  replace hD : va_D A ws1_ := by rw [hws1_]; exact hD
  have h1_0 : ws1_[(si 0)]? = some (sd 0, .inr (2, [.ref (sd 1), .ref (sd 2)])) := by rw [hws1_]; exact gs_n n_si1_si0 hSp.1
  have h1_1 : ws1_[(si 1)]? = some (sd 1, .inl (ty 0, 3, .inl (fa (mvw st to w)))) := by rw [hws1_]; exact gs_s hSp.2.1
  have h1_2 : ws1_[(si 2)]? = some (sd 2, .inl (ty 0, 2, .inl (fa q))) := by rw [hws1_]; exact gs_n n_si1_si2 hSp.2.2
  have h1_3 : ws1_[mi]? = some (md, .inr (5, [.int (ii st), .int (ii rp), .int (ii fr), .int (ii to)])) := by rw [hws1_]; exact gs_n n_si1_mi hM
  exact eMv hQ hx hb hr hlk hP hD hS (Nat.le_of_ble_eq_true rfl) (Nat.le_of_ble_eq_true rfl) dX5_does_5 (⟨rfl, by rw [hws1_]⟩)
set_option maxHeartbeats 4000000 in
theorem m_moves_7 (l : Launch) (G : va_G) (ty : Nat → ClassId) (ws : va_W) (si sd : Nat → Nat) (w q : Int → Int) (mi md : Nat) (st rp fr to : Int)  (hSp : spotAt ty ws si sd w q) (hM : moveAt ws 6 mi md st rp fr to) (hm : 0 ≤ st ∧ st ≤ 7 ∧ 0 ≤ rp ∧ rp ≤ 1 ∧ 0 ≤ fr ∧ fr ≤ 4 ∧ 0 ≤ to ∧ to ≤ 4) (n_si1_si0 : (si 1) ≠ (si 0)) (n_si1_si2 : (si 1) ≠ (si 2)) (n_si1_mi : (si 1) ≠ mi) : cM l yX5_moves (ws_ yX5_moves cX5_moves 3 none) (rm4 0 0 0 0) G ty (ws) [.ref md, .ref (sd 0)] 0 0 (fun r W' => r = none ∧ W' = ws.set (si 1) (sd 1, .inl (ty 0, 3, .inl (fa (mvw st to w))))) := by
  refine cM.of (by decide) (Nat.le_of_ble_eq_true rfl) ?_
  intro p e s m args below meth c A Q H locs hQ hx hb hr hml hown hlk hname hts hK hP hD hS hA hX ls hl
  have hl : lv_has ls 3 [(0, .ref md), (1, .ref (sd 0))] := hl
  obtain ⟨hm0, hm1, hm2, hm3, hm4, hm5, hm6, hm7⟩ := id hm
  refine li_iconst hx hb dX5_moves_0 ?_
  refine lv_istore_n (lv' := [(2, .int (ii 0)), (0, .ref md), (1, .ref (sd 0))]) hx hb dX5_moves_1 rfl hl (by decide) rfl (fun ls hl => ?_)
  refine lv_iload_n hx hb dX5_moves_2 rfl (lv_at hl 0 rfl) ?_
  refine li_iconst hx hb dX5_moves_3 ?_
  refine li_icmp_ge (tgt := 35) hx hb ⟨by decide, by decide⟩ ⟨by decide, by decide⟩ dX5_moves_4 (by decide) (fun c4 => ?_) (fun c4 => ?_)
  · exact absurd c4 (by decide)
  · refine lv_aload_n hx hb dX5_moves_7 rfl (lv_at hl 1 rfl) ?_
    refine va_get (D := G) (fs := [.int (ii st), .int (ii rp), .int (ii fr), .int (ii to)]) (ci := 6) (v := .int (ii st)) (C := RX7) (T := TX7) (N := 4) hx hb hts in_X7 hown hK hP mi hM rfl 0 (by decide) (hts _ q861) (fun _ h9 => h9) rfl dX5_moves_8 ?_
    refine lv_iload_n hx hb dX5_moves_11 rfl (lv_at hl 0 rfl) ?_
    refine lv_ishr hx hb dX5_moves_12 ?_
    refine li_topx (z := st) (ii_shr0 (by omega) (by omega)) ?_
    refine li_iconst hx hb dX5_moves_13 ?_
    refine lv_iand hx hb dX5_moves_14 ?_
    refine li_topx (z := st % 2) (ii_and1 (by omega) (by omega)) ?_
    refine li_iconst hx hb dX5_moves_15 ?_
    refine li_icmp_ne (tgt := 29) hx hb ⟨by omega, by omega⟩ ⟨by decide, by decide⟩ dX5_moves_16 (by decide) (fun c16 => ?_) (fun c16 => ?_)
    · refine li_iinc (a := 0) (lv' := [(2, .int (ii 1)), (0, .ref md), (1, .ref (sd 0))]) hx hb dX5_moves_29 hl (k := 0) rfl (by decide) rfl (fun ls hl => ?_)
      refine lv_goto (tgt := 2) hx hb dX5_moves_32 (by decide) ?_
      refine lv_iload_n hx hb dX5_moves_2 rfl (lv_at hl 0 rfl) ?_
      refine li_iconst hx hb dX5_moves_3 ?_
      refine li_icmp_ge (tgt := 35) hx hb ⟨by decide, by decide⟩ ⟨by decide, by decide⟩ dX5_moves_4 (by decide) (fun c4 => ?_) (fun c4 => ?_)
      · exact absurd c4 (by decide)
      · refine lv_aload_n hx hb dX5_moves_7 rfl (lv_at hl 1 rfl) ?_
        refine va_get (D := G) (fs := [.int (ii st), .int (ii rp), .int (ii fr), .int (ii to)]) (ci := 6) (v := .int (ii st)) (C := RX7) (T := TX7) (N := 4) hx hb hts in_X7 hown hK hP mi hM rfl 0 (by decide) (hts _ q861) (fun _ h9 => h9) rfl dX5_moves_8 ?_
        refine lv_iload_n hx hb dX5_moves_11 rfl (lv_at hl 0 rfl) ?_
        refine lv_ishr hx hb dX5_moves_12 ?_
        refine li_topx (z := st / 2) (ii_shr1 (by omega) (by omega)) ?_
        refine li_iconst hx hb dX5_moves_13 ?_
        refine lv_iand hx hb dX5_moves_14 ?_
        refine li_topx (z := (st / 2) % 2) (ii_and1 (by omega) (by omega)) ?_
        refine li_iconst hx hb dX5_moves_15 ?_
        refine li_icmp_ne (tgt := 29) hx hb ⟨by omega, by omega⟩ ⟨by decide, by decide⟩ dX5_moves_16 (by decide) (fun c16 => ?_) (fun c16 => ?_)
        · refine li_iinc (a := 1) (lv' := [(2, .int (ii 2)), (0, .ref md), (1, .ref (sd 0))]) hx hb dX5_moves_29 hl (k := 0) rfl (by decide) rfl (fun ls hl => ?_)
          refine lv_goto (tgt := 2) hx hb dX5_moves_32 (by decide) ?_
          refine lv_iload_n hx hb dX5_moves_2 rfl (lv_at hl 0 rfl) ?_
          refine li_iconst hx hb dX5_moves_3 ?_
          refine li_icmp_ge (tgt := 35) hx hb ⟨by decide, by decide⟩ ⟨by decide, by decide⟩ dX5_moves_4 (by decide) (fun c4 => ?_) (fun c4 => ?_)
          · exact absurd c4 (by decide)
          · refine lv_aload_n hx hb dX5_moves_7 rfl (lv_at hl 1 rfl) ?_
            refine va_get (D := G) (fs := [.int (ii st), .int (ii rp), .int (ii fr), .int (ii to)]) (ci := 6) (v := .int (ii st)) (C := RX7) (T := TX7) (N := 4) hx hb hts in_X7 hown hK hP mi hM rfl 0 (by decide) (hts _ q861) (fun _ h9 => h9) rfl dX5_moves_8 ?_
            refine lv_iload_n hx hb dX5_moves_11 rfl (lv_at hl 0 rfl) ?_
            refine lv_ishr hx hb dX5_moves_12 ?_
            refine li_topx (z := st / 4) (ii_shr2 (by omega) (by omega)) ?_
            refine li_iconst hx hb dX5_moves_13 ?_
            refine lv_iand hx hb dX5_moves_14 ?_
            refine li_topx (z := (st / 4) % 2) (ii_and1 (by omega) (by omega)) ?_
            refine li_iconst hx hb dX5_moves_15 ?_
            refine li_icmp_ne (tgt := 29) hx hb ⟨by omega, by omega⟩ ⟨by decide, by decide⟩ dX5_moves_16 (by decide) (fun c16 => ?_) (fun c16 => ?_)
            · refine li_iinc (a := 2) (lv' := [(2, .int (ii 3)), (0, .ref md), (1, .ref (sd 0))]) hx hb dX5_moves_29 hl (k := 0) rfl (by decide) rfl (fun ls hl => ?_)
              refine lv_goto (tgt := 2) hx hb dX5_moves_32 (by decide) ?_
              refine lv_iload_n hx hb dX5_moves_2 rfl (lv_at hl 0 rfl) ?_
              refine li_iconst hx hb dX5_moves_3 ?_
              refine li_icmp_ge (tgt := 35) hx hb ⟨by decide, by decide⟩ ⟨by decide, by decide⟩ dX5_moves_4 (by decide) (fun c4 => ?_) (fun c4 => ?_)
              · exact eMv hQ hx hb hr hlk hP hD hS (Nat.le_of_ble_eq_true rfl) (Nat.le_of_ble_eq_true rfl) dX5_moves_35 (⟨rfl, by have e : (w) = mvw st to w := (by funext i; simp only [mvw, ug]; omega); rw [← e]; exact (set_same hSp.2.1).symm⟩)
              · exact absurd c4 (by decide)
            · refine lv_aload_n hx hb dX5_moves_19 rfl (lv_at hl 2 rfl) ?_
              refine va_get (D := G) (fs := [.ref (sd 1), .ref (sd 2)]) (ci := 2) (v := .ref (sd 1)) (C := RX3) (T := TX3) (N := 2) hx hb hts in_X3 hown hK hP (si 0) hSp.1 rfl 0 (by decide) (hts _ q655) (fun _ h9 => h9) rfl dX5_moves_20 ?_
              refine lv_iload_n hx hb dX5_moves_23 rfl (lv_at hl 0 rfl) ?_
              refine lv_aload_n hx hb dX5_moves_24 rfl (lv_at hl 1 rfl) ?_
              refine va_get (D := G) (fs := [.int (ii st), .int (ii rp), .int (ii fr), .int (ii to)]) (ci := 6) (v := .int (ii to)) (C := RX7) (T := TX7) (N := 4) hx hb hts in_X7 hown hK hP mi hM rfl 3 (by decide) (hts _ q900) (fun _ h9 => h9) rfl dX5_moves_25 ?_
              refine li_iast (g := w) (W2 := (ws.set (si 1) (sd 1, .inl (ty 0, 3, .inl (fa (ug w 2 to)))))) hx hb hK hP hD hS (si 1) 0 hSp.2.1 rfl (by decide) (by decide) (by decide) rfl dX5_moves_28 (fun H locs hP hD hS => ?_)
              obtain ⟨ws1_, hws1_⟩ : ∃ z, z = (ws.set (si 1) (sd 1, .inl (ty 0, 3, .inl (fa (ug w 2 to))))) := ⟨_, rfl⟩
              replace hP : va_P G gcl ws1_ H := by rw [hws1_]; exact hP
              replace hD : va_D A ws1_ := by rw [hws1_]; exact hD
              have h1_0 : ws1_[(si 0)]? = some (sd 0, .inr (2, [.ref (sd 1), .ref (sd 2)])) := by rw [hws1_]; exact gs_n n_si1_si0 hSp.1
              have h1_1 : ws1_[(si 1)]? = some (sd 1, .inl (ty 0, 3, .inl (fa (ug w 2 to)))) := by rw [hws1_]; exact gs_s hSp.2.1
              have h1_2 : ws1_[(si 2)]? = some (sd 2, .inl (ty 0, 2, .inl (fa q))) := by rw [hws1_]; exact gs_n n_si1_si2 hSp.2.2
              have h1_3 : ws1_[mi]? = some (md, .inr (6, [.int (ii st), .int (ii rp), .int (ii fr), .int (ii to)])) := by rw [hws1_]; exact gs_n n_si1_mi hM
              refine li_iinc (a := 2) (lv' := [(2, .int (ii 3)), (0, .ref md), (1, .ref (sd 0))]) hx hb dX5_moves_29 hl (k := 0) rfl (by decide) rfl (fun ls hl => ?_)
              refine lv_goto (tgt := 2) hx hb dX5_moves_32 (by decide) ?_
              refine lv_iload_n hx hb dX5_moves_2 rfl (lv_at hl 0 rfl) ?_
              refine li_iconst hx hb dX5_moves_3 ?_
              refine li_icmp_ge (tgt := 35) hx hb ⟨by decide, by decide⟩ ⟨by decide, by decide⟩ dX5_moves_4 (by decide) (fun c4 => ?_) (fun c4 => ?_)
              · exact eMv hQ hx hb hr hlk hP hD hS (Nat.le_of_ble_eq_true rfl) (Nat.le_of_ble_eq_true rfl) dX5_moves_35 (⟨rfl, by have e : (ug w 2 to) = mvw st to w := (by funext i; simp only [mvw, ug]; omega); rw [hws1_]; (try simp only [List.set_set]); rw [e]⟩)
              · exact absurd c4 (by decide)
        · refine lv_aload_n hx hb dX5_moves_19 rfl (lv_at hl 2 rfl) ?_
          refine va_get (D := G) (fs := [.ref (sd 1), .ref (sd 2)]) (ci := 2) (v := .ref (sd 1)) (C := RX3) (T := TX3) (N := 2) hx hb hts in_X3 hown hK hP (si 0) hSp.1 rfl 0 (by decide) (hts _ q655) (fun _ h9 => h9) rfl dX5_moves_20 ?_
          refine lv_iload_n hx hb dX5_moves_23 rfl (lv_at hl 0 rfl) ?_
          refine lv_aload_n hx hb dX5_moves_24 rfl (lv_at hl 1 rfl) ?_
          refine va_get (D := G) (fs := [.int (ii st), .int (ii rp), .int (ii fr), .int (ii to)]) (ci := 6) (v := .int (ii to)) (C := RX7) (T := TX7) (N := 4) hx hb hts in_X7 hown hK hP mi hM rfl 3 (by decide) (hts _ q900) (fun _ h9 => h9) rfl dX5_moves_25 ?_
          refine li_iast (g := w) (W2 := (ws.set (si 1) (sd 1, .inl (ty 0, 3, .inl (fa (ug w 1 to)))))) hx hb hK hP hD hS (si 1) 0 hSp.2.1 rfl (by decide) (by decide) (by decide) rfl dX5_moves_28 (fun H locs hP hD hS => ?_)
          obtain ⟨ws1_, hws1_⟩ : ∃ z, z = (ws.set (si 1) (sd 1, .inl (ty 0, 3, .inl (fa (ug w 1 to))))) := ⟨_, rfl⟩
          replace hP : va_P G gcl ws1_ H := by rw [hws1_]; exact hP
          replace hD : va_D A ws1_ := by rw [hws1_]; exact hD
          have h1_0 : ws1_[(si 0)]? = some (sd 0, .inr (2, [.ref (sd 1), .ref (sd 2)])) := by rw [hws1_]; exact gs_n n_si1_si0 hSp.1
          have h1_1 : ws1_[(si 1)]? = some (sd 1, .inl (ty 0, 3, .inl (fa (ug w 1 to)))) := by rw [hws1_]; exact gs_s hSp.2.1
          have h1_2 : ws1_[(si 2)]? = some (sd 2, .inl (ty 0, 2, .inl (fa q))) := by rw [hws1_]; exact gs_n n_si1_si2 hSp.2.2
          have h1_3 : ws1_[mi]? = some (md, .inr (6, [.int (ii st), .int (ii rp), .int (ii fr), .int (ii to)])) := by rw [hws1_]; exact gs_n n_si1_mi hM
          refine li_iinc (a := 1) (lv' := [(2, .int (ii 2)), (0, .ref md), (1, .ref (sd 0))]) hx hb dX5_moves_29 hl (k := 0) rfl (by decide) rfl (fun ls hl => ?_)
          refine lv_goto (tgt := 2) hx hb dX5_moves_32 (by decide) ?_
          refine lv_iload_n hx hb dX5_moves_2 rfl (lv_at hl 0 rfl) ?_
          refine li_iconst hx hb dX5_moves_3 ?_
          refine li_icmp_ge (tgt := 35) hx hb ⟨by decide, by decide⟩ ⟨by decide, by decide⟩ dX5_moves_4 (by decide) (fun c4 => ?_) (fun c4 => ?_)
          · exact absurd c4 (by decide)
          · refine lv_aload_n hx hb dX5_moves_7 rfl (lv_at hl 1 rfl) ?_
            refine va_get (D := G) (fs := [.int (ii st), .int (ii rp), .int (ii fr), .int (ii to)]) (ci := 6) (v := .int (ii st)) (C := RX7) (T := TX7) (N := 4) hx hb hts in_X7 hown hK hP mi h1_3 rfl 0 (by decide) (hts _ q861) (fun _ h9 => h9) rfl dX5_moves_8 ?_
            refine lv_iload_n hx hb dX5_moves_11 rfl (lv_at hl 0 rfl) ?_
            refine lv_ishr hx hb dX5_moves_12 ?_
            refine li_topx (z := st / 4) (ii_shr2 (by omega) (by omega)) ?_
            refine li_iconst hx hb dX5_moves_13 ?_
            refine lv_iand hx hb dX5_moves_14 ?_
            refine li_topx (z := (st / 4) % 2) (ii_and1 (by omega) (by omega)) ?_
            refine li_iconst hx hb dX5_moves_15 ?_
            refine li_icmp_ne (tgt := 29) hx hb ⟨by omega, by omega⟩ ⟨by decide, by decide⟩ dX5_moves_16 (by decide) (fun c16 => ?_) (fun c16 => ?_)
            · refine li_iinc (a := 2) (lv' := [(2, .int (ii 3)), (0, .ref md), (1, .ref (sd 0))]) hx hb dX5_moves_29 hl (k := 0) rfl (by decide) rfl (fun ls hl => ?_)
              refine lv_goto (tgt := 2) hx hb dX5_moves_32 (by decide) ?_
              refine lv_iload_n hx hb dX5_moves_2 rfl (lv_at hl 0 rfl) ?_
              refine li_iconst hx hb dX5_moves_3 ?_
              refine li_icmp_ge (tgt := 35) hx hb ⟨by decide, by decide⟩ ⟨by decide, by decide⟩ dX5_moves_4 (by decide) (fun c4 => ?_) (fun c4 => ?_)
              · exact eMv hQ hx hb hr hlk hP hD hS (Nat.le_of_ble_eq_true rfl) (Nat.le_of_ble_eq_true rfl) dX5_moves_35 (⟨rfl, by have e : (ug w 1 to) = mvw st to w := (by funext i; simp only [mvw, ug]; omega); rw [hws1_]; (try simp only [List.set_set]); rw [e]⟩)
              · exact absurd c4 (by decide)
            · refine lv_aload_n hx hb dX5_moves_19 rfl (lv_at hl 2 rfl) ?_
              refine va_get (D := G) (fs := [.ref (sd 1), .ref (sd 2)]) (ci := 2) (v := .ref (sd 1)) (C := RX3) (T := TX3) (N := 2) hx hb hts in_X3 hown hK hP (si 0) h1_0 rfl 0 (by decide) (hts _ q655) (fun _ h9 => h9) rfl dX5_moves_20 ?_
              refine lv_iload_n hx hb dX5_moves_23 rfl (lv_at hl 0 rfl) ?_
              refine lv_aload_n hx hb dX5_moves_24 rfl (lv_at hl 1 rfl) ?_
              refine va_get (D := G) (fs := [.int (ii st), .int (ii rp), .int (ii fr), .int (ii to)]) (ci := 6) (v := .int (ii to)) (C := RX7) (T := TX7) (N := 4) hx hb hts in_X7 hown hK hP mi h1_3 rfl 3 (by decide) (hts _ q900) (fun _ h9 => h9) rfl dX5_moves_25 ?_
              refine li_iast (g := ug w 1 to) (W2 := (ws1_.set (si 1) (sd 1, .inl (ty 0, 3, .inl (fa (ug (ug w 1 to) 2 to)))))) hx hb hK hP hD hS (si 1) 0 h1_1 rfl (by decide) (by decide) (by decide) rfl dX5_moves_28 (fun H locs hP hD hS => ?_)
              obtain ⟨ws2_, hws2_⟩ : ∃ z, z = (ws1_.set (si 1) (sd 1, .inl (ty 0, 3, .inl (fa (ug (ug w 1 to) 2 to))))) := ⟨_, rfl⟩
              replace hP : va_P G gcl ws2_ H := by rw [hws2_]; exact hP
              replace hD : va_D A ws2_ := by rw [hws2_]; exact hD
              have h2_0 : ws2_[(si 0)]? = some (sd 0, .inr (2, [.ref (sd 1), .ref (sd 2)])) := by rw [hws2_]; exact gs_n n_si1_si0 h1_0
              have h2_1 : ws2_[(si 1)]? = some (sd 1, .inl (ty 0, 3, .inl (fa (ug (ug w 1 to) 2 to)))) := by rw [hws2_]; exact gs_s h1_1
              have h2_2 : ws2_[(si 2)]? = some (sd 2, .inl (ty 0, 2, .inl (fa q))) := by rw [hws2_]; exact gs_n n_si1_si2 h1_2
              have h2_3 : ws2_[mi]? = some (md, .inr (6, [.int (ii st), .int (ii rp), .int (ii fr), .int (ii to)])) := by rw [hws2_]; exact gs_n n_si1_mi h1_3
              refine li_iinc (a := 2) (lv' := [(2, .int (ii 3)), (0, .ref md), (1, .ref (sd 0))]) hx hb dX5_moves_29 hl (k := 0) rfl (by decide) rfl (fun ls hl => ?_)
              refine lv_goto (tgt := 2) hx hb dX5_moves_32 (by decide) ?_
              refine lv_iload_n hx hb dX5_moves_2 rfl (lv_at hl 0 rfl) ?_
              refine li_iconst hx hb dX5_moves_3 ?_
              refine li_icmp_ge (tgt := 35) hx hb ⟨by decide, by decide⟩ ⟨by decide, by decide⟩ dX5_moves_4 (by decide) (fun c4 => ?_) (fun c4 => ?_)
              · exact eMv hQ hx hb hr hlk hP hD hS (Nat.le_of_ble_eq_true rfl) (Nat.le_of_ble_eq_true rfl) dX5_moves_35 (⟨rfl, by have e : (ug (ug w 1 to) 2 to) = mvw st to w := (by funext i; simp only [mvw, ug]; omega); rw [hws2_, hws1_]; (try simp only [List.set_set]); rw [e]⟩)
              · exact absurd c4 (by decide)
    · refine lv_aload_n hx hb dX5_moves_19 rfl (lv_at hl 2 rfl) ?_
      refine va_get (D := G) (fs := [.ref (sd 1), .ref (sd 2)]) (ci := 2) (v := .ref (sd 1)) (C := RX3) (T := TX3) (N := 2) hx hb hts in_X3 hown hK hP (si 0) hSp.1 rfl 0 (by decide) (hts _ q655) (fun _ h9 => h9) rfl dX5_moves_20 ?_
      refine lv_iload_n hx hb dX5_moves_23 rfl (lv_at hl 0 rfl) ?_
      refine lv_aload_n hx hb dX5_moves_24 rfl (lv_at hl 1 rfl) ?_
      refine va_get (D := G) (fs := [.int (ii st), .int (ii rp), .int (ii fr), .int (ii to)]) (ci := 6) (v := .int (ii to)) (C := RX7) (T := TX7) (N := 4) hx hb hts in_X7 hown hK hP mi hM rfl 3 (by decide) (hts _ q900) (fun _ h9 => h9) rfl dX5_moves_25 ?_
      refine li_iast (g := w) (W2 := (ws.set (si 1) (sd 1, .inl (ty 0, 3, .inl (fa (ug w 0 to)))))) hx hb hK hP hD hS (si 1) 0 hSp.2.1 rfl (by decide) (by decide) (by decide) rfl dX5_moves_28 (fun H locs hP hD hS => ?_)
      obtain ⟨ws1_, hws1_⟩ : ∃ z, z = (ws.set (si 1) (sd 1, .inl (ty 0, 3, .inl (fa (ug w 0 to))))) := ⟨_, rfl⟩
      replace hP : va_P G gcl ws1_ H := by rw [hws1_]; exact hP
      replace hD : va_D A ws1_ := by rw [hws1_]; exact hD
      have h1_0 : ws1_[(si 0)]? = some (sd 0, .inr (2, [.ref (sd 1), .ref (sd 2)])) := by rw [hws1_]; exact gs_n n_si1_si0 hSp.1
      have h1_1 : ws1_[(si 1)]? = some (sd 1, .inl (ty 0, 3, .inl (fa (ug w 0 to)))) := by rw [hws1_]; exact gs_s hSp.2.1
      have h1_2 : ws1_[(si 2)]? = some (sd 2, .inl (ty 0, 2, .inl (fa q))) := by rw [hws1_]; exact gs_n n_si1_si2 hSp.2.2
      have h1_3 : ws1_[mi]? = some (md, .inr (6, [.int (ii st), .int (ii rp), .int (ii fr), .int (ii to)])) := by rw [hws1_]; exact gs_n n_si1_mi hM
      refine li_iinc (a := 0) (lv' := [(2, .int (ii 1)), (0, .ref md), (1, .ref (sd 0))]) hx hb dX5_moves_29 hl (k := 0) rfl (by decide) rfl (fun ls hl => ?_)
      refine lv_goto (tgt := 2) hx hb dX5_moves_32 (by decide) ?_
      refine lv_iload_n hx hb dX5_moves_2 rfl (lv_at hl 0 rfl) ?_
      refine li_iconst hx hb dX5_moves_3 ?_
      refine li_icmp_ge (tgt := 35) hx hb ⟨by decide, by decide⟩ ⟨by decide, by decide⟩ dX5_moves_4 (by decide) (fun c4 => ?_) (fun c4 => ?_)
      · exact absurd c4 (by decide)
      · refine lv_aload_n hx hb dX5_moves_7 rfl (lv_at hl 1 rfl) ?_
        refine va_get (D := G) (fs := [.int (ii st), .int (ii rp), .int (ii fr), .int (ii to)]) (ci := 6) (v := .int (ii st)) (C := RX7) (T := TX7) (N := 4) hx hb hts in_X7 hown hK hP mi h1_3 rfl 0 (by decide) (hts _ q861) (fun _ h9 => h9) rfl dX5_moves_8 ?_
        refine lv_iload_n hx hb dX5_moves_11 rfl (lv_at hl 0 rfl) ?_
        refine lv_ishr hx hb dX5_moves_12 ?_
        refine li_topx (z := st / 2) (ii_shr1 (by omega) (by omega)) ?_
        refine li_iconst hx hb dX5_moves_13 ?_
        refine lv_iand hx hb dX5_moves_14 ?_
        refine li_topx (z := (st / 2) % 2) (ii_and1 (by omega) (by omega)) ?_
        refine li_iconst hx hb dX5_moves_15 ?_
        refine li_icmp_ne (tgt := 29) hx hb ⟨by omega, by omega⟩ ⟨by decide, by decide⟩ dX5_moves_16 (by decide) (fun c16 => ?_) (fun c16 => ?_)
        · refine li_iinc (a := 1) (lv' := [(2, .int (ii 2)), (0, .ref md), (1, .ref (sd 0))]) hx hb dX5_moves_29 hl (k := 0) rfl (by decide) rfl (fun ls hl => ?_)
          refine lv_goto (tgt := 2) hx hb dX5_moves_32 (by decide) ?_
          refine lv_iload_n hx hb dX5_moves_2 rfl (lv_at hl 0 rfl) ?_
          refine li_iconst hx hb dX5_moves_3 ?_
          refine li_icmp_ge (tgt := 35) hx hb ⟨by decide, by decide⟩ ⟨by decide, by decide⟩ dX5_moves_4 (by decide) (fun c4 => ?_) (fun c4 => ?_)
          · exact absurd c4 (by decide)
          · refine lv_aload_n hx hb dX5_moves_7 rfl (lv_at hl 1 rfl) ?_
            refine va_get (D := G) (fs := [.int (ii st), .int (ii rp), .int (ii fr), .int (ii to)]) (ci := 6) (v := .int (ii st)) (C := RX7) (T := TX7) (N := 4) hx hb hts in_X7 hown hK hP mi h1_3 rfl 0 (by decide) (hts _ q861) (fun _ h9 => h9) rfl dX5_moves_8 ?_
            refine lv_iload_n hx hb dX5_moves_11 rfl (lv_at hl 0 rfl) ?_
            refine lv_ishr hx hb dX5_moves_12 ?_
            refine li_topx (z := st / 4) (ii_shr2 (by omega) (by omega)) ?_
            refine li_iconst hx hb dX5_moves_13 ?_
            refine lv_iand hx hb dX5_moves_14 ?_
            refine li_topx (z := (st / 4) % 2) (ii_and1 (by omega) (by omega)) ?_
            refine li_iconst hx hb dX5_moves_15 ?_
            refine li_icmp_ne (tgt := 29) hx hb ⟨by omega, by omega⟩ ⟨by decide, by decide⟩ dX5_moves_16 (by decide) (fun c16 => ?_) (fun c16 => ?_)
            · refine li_iinc (a := 2) (lv' := [(2, .int (ii 3)), (0, .ref md), (1, .ref (sd 0))]) hx hb dX5_moves_29 hl (k := 0) rfl (by decide) rfl (fun ls hl => ?_)
              refine lv_goto (tgt := 2) hx hb dX5_moves_32 (by decide) ?_
              refine lv_iload_n hx hb dX5_moves_2 rfl (lv_at hl 0 rfl) ?_
              refine li_iconst hx hb dX5_moves_3 ?_
              refine li_icmp_ge (tgt := 35) hx hb ⟨by decide, by decide⟩ ⟨by decide, by decide⟩ dX5_moves_4 (by decide) (fun c4 => ?_) (fun c4 => ?_)
              · exact eMv hQ hx hb hr hlk hP hD hS (Nat.le_of_ble_eq_true rfl) (Nat.le_of_ble_eq_true rfl) dX5_moves_35 (⟨rfl, by have e : (ug w 0 to) = mvw st to w := (by funext i; simp only [mvw, ug]; omega); rw [hws1_]; (try simp only [List.set_set]); rw [e]⟩)
              · exact absurd c4 (by decide)
            · refine lv_aload_n hx hb dX5_moves_19 rfl (lv_at hl 2 rfl) ?_
              refine va_get (D := G) (fs := [.ref (sd 1), .ref (sd 2)]) (ci := 2) (v := .ref (sd 1)) (C := RX3) (T := TX3) (N := 2) hx hb hts in_X3 hown hK hP (si 0) h1_0 rfl 0 (by decide) (hts _ q655) (fun _ h9 => h9) rfl dX5_moves_20 ?_
              refine lv_iload_n hx hb dX5_moves_23 rfl (lv_at hl 0 rfl) ?_
              refine lv_aload_n hx hb dX5_moves_24 rfl (lv_at hl 1 rfl) ?_
              refine va_get (D := G) (fs := [.int (ii st), .int (ii rp), .int (ii fr), .int (ii to)]) (ci := 6) (v := .int (ii to)) (C := RX7) (T := TX7) (N := 4) hx hb hts in_X7 hown hK hP mi h1_3 rfl 3 (by decide) (hts _ q900) (fun _ h9 => h9) rfl dX5_moves_25 ?_
              refine li_iast (g := ug w 0 to) (W2 := (ws1_.set (si 1) (sd 1, .inl (ty 0, 3, .inl (fa (ug (ug w 0 to) 2 to)))))) hx hb hK hP hD hS (si 1) 0 h1_1 rfl (by decide) (by decide) (by decide) rfl dX5_moves_28 (fun H locs hP hD hS => ?_)
              obtain ⟨ws2_, hws2_⟩ : ∃ z, z = (ws1_.set (si 1) (sd 1, .inl (ty 0, 3, .inl (fa (ug (ug w 0 to) 2 to))))) := ⟨_, rfl⟩
              replace hP : va_P G gcl ws2_ H := by rw [hws2_]; exact hP
              replace hD : va_D A ws2_ := by rw [hws2_]; exact hD
              have h2_0 : ws2_[(si 0)]? = some (sd 0, .inr (2, [.ref (sd 1), .ref (sd 2)])) := by rw [hws2_]; exact gs_n n_si1_si0 h1_0
              have h2_1 : ws2_[(si 1)]? = some (sd 1, .inl (ty 0, 3, .inl (fa (ug (ug w 0 to) 2 to)))) := by rw [hws2_]; exact gs_s h1_1
              have h2_2 : ws2_[(si 2)]? = some (sd 2, .inl (ty 0, 2, .inl (fa q))) := by rw [hws2_]; exact gs_n n_si1_si2 h1_2
              have h2_3 : ws2_[mi]? = some (md, .inr (6, [.int (ii st), .int (ii rp), .int (ii fr), .int (ii to)])) := by rw [hws2_]; exact gs_n n_si1_mi h1_3
              refine li_iinc (a := 2) (lv' := [(2, .int (ii 3)), (0, .ref md), (1, .ref (sd 0))]) hx hb dX5_moves_29 hl (k := 0) rfl (by decide) rfl (fun ls hl => ?_)
              refine lv_goto (tgt := 2) hx hb dX5_moves_32 (by decide) ?_
              refine lv_iload_n hx hb dX5_moves_2 rfl (lv_at hl 0 rfl) ?_
              refine li_iconst hx hb dX5_moves_3 ?_
              refine li_icmp_ge (tgt := 35) hx hb ⟨by decide, by decide⟩ ⟨by decide, by decide⟩ dX5_moves_4 (by decide) (fun c4 => ?_) (fun c4 => ?_)
              · exact eMv hQ hx hb hr hlk hP hD hS (Nat.le_of_ble_eq_true rfl) (Nat.le_of_ble_eq_true rfl) dX5_moves_35 (⟨rfl, by have e : (ug (ug w 0 to) 2 to) = mvw st to w := (by funext i; simp only [mvw, ug]; omega); rw [hws2_, hws1_]; (try simp only [List.set_set]); rw [e]⟩)
              · exact absurd c4 (by decide)
        · refine lv_aload_n hx hb dX5_moves_19 rfl (lv_at hl 2 rfl) ?_
          refine va_get (D := G) (fs := [.ref (sd 1), .ref (sd 2)]) (ci := 2) (v := .ref (sd 1)) (C := RX3) (T := TX3) (N := 2) hx hb hts in_X3 hown hK hP (si 0) h1_0 rfl 0 (by decide) (hts _ q655) (fun _ h9 => h9) rfl dX5_moves_20 ?_
          refine lv_iload_n hx hb dX5_moves_23 rfl (lv_at hl 0 rfl) ?_
          refine lv_aload_n hx hb dX5_moves_24 rfl (lv_at hl 1 rfl) ?_
          refine va_get (D := G) (fs := [.int (ii st), .int (ii rp), .int (ii fr), .int (ii to)]) (ci := 6) (v := .int (ii to)) (C := RX7) (T := TX7) (N := 4) hx hb hts in_X7 hown hK hP mi h1_3 rfl 3 (by decide) (hts _ q900) (fun _ h9 => h9) rfl dX5_moves_25 ?_
          refine li_iast (g := ug w 0 to) (W2 := (ws1_.set (si 1) (sd 1, .inl (ty 0, 3, .inl (fa (ug (ug w 0 to) 1 to)))))) hx hb hK hP hD hS (si 1) 0 h1_1 rfl (by decide) (by decide) (by decide) rfl dX5_moves_28 (fun H locs hP hD hS => ?_)
          obtain ⟨ws2_, hws2_⟩ : ∃ z, z = (ws1_.set (si 1) (sd 1, .inl (ty 0, 3, .inl (fa (ug (ug w 0 to) 1 to))))) := ⟨_, rfl⟩
          replace hP : va_P G gcl ws2_ H := by rw [hws2_]; exact hP
          replace hD : va_D A ws2_ := by rw [hws2_]; exact hD
          have h2_0 : ws2_[(si 0)]? = some (sd 0, .inr (2, [.ref (sd 1), .ref (sd 2)])) := by rw [hws2_]; exact gs_n n_si1_si0 h1_0
          have h2_1 : ws2_[(si 1)]? = some (sd 1, .inl (ty 0, 3, .inl (fa (ug (ug w 0 to) 1 to)))) := by rw [hws2_]; exact gs_s h1_1
          have h2_2 : ws2_[(si 2)]? = some (sd 2, .inl (ty 0, 2, .inl (fa q))) := by rw [hws2_]; exact gs_n n_si1_si2 h1_2
          have h2_3 : ws2_[mi]? = some (md, .inr (6, [.int (ii st), .int (ii rp), .int (ii fr), .int (ii to)])) := by rw [hws2_]; exact gs_n n_si1_mi h1_3
          refine li_iinc (a := 1) (lv' := [(2, .int (ii 2)), (0, .ref md), (1, .ref (sd 0))]) hx hb dX5_moves_29 hl (k := 0) rfl (by decide) rfl (fun ls hl => ?_)
          refine lv_goto (tgt := 2) hx hb dX5_moves_32 (by decide) ?_
          refine lv_iload_n hx hb dX5_moves_2 rfl (lv_at hl 0 rfl) ?_
          refine li_iconst hx hb dX5_moves_3 ?_
          refine li_icmp_ge (tgt := 35) hx hb ⟨by decide, by decide⟩ ⟨by decide, by decide⟩ dX5_moves_4 (by decide) (fun c4 => ?_) (fun c4 => ?_)
          · exact absurd c4 (by decide)
          · refine lv_aload_n hx hb dX5_moves_7 rfl (lv_at hl 1 rfl) ?_
            refine va_get (D := G) (fs := [.int (ii st), .int (ii rp), .int (ii fr), .int (ii to)]) (ci := 6) (v := .int (ii st)) (C := RX7) (T := TX7) (N := 4) hx hb hts in_X7 hown hK hP mi h2_3 rfl 0 (by decide) (hts _ q861) (fun _ h9 => h9) rfl dX5_moves_8 ?_
            refine lv_iload_n hx hb dX5_moves_11 rfl (lv_at hl 0 rfl) ?_
            refine lv_ishr hx hb dX5_moves_12 ?_
            refine li_topx (z := st / 4) (ii_shr2 (by omega) (by omega)) ?_
            refine li_iconst hx hb dX5_moves_13 ?_
            refine lv_iand hx hb dX5_moves_14 ?_
            refine li_topx (z := (st / 4) % 2) (ii_and1 (by omega) (by omega)) ?_
            refine li_iconst hx hb dX5_moves_15 ?_
            refine li_icmp_ne (tgt := 29) hx hb ⟨by omega, by omega⟩ ⟨by decide, by decide⟩ dX5_moves_16 (by decide) (fun c16 => ?_) (fun c16 => ?_)
            · refine li_iinc (a := 2) (lv' := [(2, .int (ii 3)), (0, .ref md), (1, .ref (sd 0))]) hx hb dX5_moves_29 hl (k := 0) rfl (by decide) rfl (fun ls hl => ?_)
              refine lv_goto (tgt := 2) hx hb dX5_moves_32 (by decide) ?_
              refine lv_iload_n hx hb dX5_moves_2 rfl (lv_at hl 0 rfl) ?_
              refine li_iconst hx hb dX5_moves_3 ?_
              refine li_icmp_ge (tgt := 35) hx hb ⟨by decide, by decide⟩ ⟨by decide, by decide⟩ dX5_moves_4 (by decide) (fun c4 => ?_) (fun c4 => ?_)
              · exact eMv hQ hx hb hr hlk hP hD hS (Nat.le_of_ble_eq_true rfl) (Nat.le_of_ble_eq_true rfl) dX5_moves_35 (⟨rfl, by have e : (ug (ug w 0 to) 1 to) = mvw st to w := (by funext i; simp only [mvw, ug]; omega); rw [hws2_, hws1_]; (try simp only [List.set_set]); rw [e]⟩)
              · exact absurd c4 (by decide)
            · refine lv_aload_n hx hb dX5_moves_19 rfl (lv_at hl 2 rfl) ?_
              refine va_get (D := G) (fs := [.ref (sd 1), .ref (sd 2)]) (ci := 2) (v := .ref (sd 1)) (C := RX3) (T := TX3) (N := 2) hx hb hts in_X3 hown hK hP (si 0) h2_0 rfl 0 (by decide) (hts _ q655) (fun _ h9 => h9) rfl dX5_moves_20 ?_
              refine lv_iload_n hx hb dX5_moves_23 rfl (lv_at hl 0 rfl) ?_
              refine lv_aload_n hx hb dX5_moves_24 rfl (lv_at hl 1 rfl) ?_
              refine va_get (D := G) (fs := [.int (ii st), .int (ii rp), .int (ii fr), .int (ii to)]) (ci := 6) (v := .int (ii to)) (C := RX7) (T := TX7) (N := 4) hx hb hts in_X7 hown hK hP mi h2_3 rfl 3 (by decide) (hts _ q900) (fun _ h9 => h9) rfl dX5_moves_25 ?_
              refine li_iast (g := ug (ug w 0 to) 1 to) (W2 := (ws2_.set (si 1) (sd 1, .inl (ty 0, 3, .inl (fa (ug (ug (ug w 0 to) 1 to) 2 to)))))) hx hb hK hP hD hS (si 1) 0 h2_1 rfl (by decide) (by decide) (by decide) rfl dX5_moves_28 (fun H locs hP hD hS => ?_)
              obtain ⟨ws3_, hws3_⟩ : ∃ z, z = (ws2_.set (si 1) (sd 1, .inl (ty 0, 3, .inl (fa (ug (ug (ug w 0 to) 1 to) 2 to))))) := ⟨_, rfl⟩
              replace hP : va_P G gcl ws3_ H := by rw [hws3_]; exact hP
              replace hD : va_D A ws3_ := by rw [hws3_]; exact hD
              have h3_0 : ws3_[(si 0)]? = some (sd 0, .inr (2, [.ref (sd 1), .ref (sd 2)])) := by rw [hws3_]; exact gs_n n_si1_si0 h2_0
              have h3_1 : ws3_[(si 1)]? = some (sd 1, .inl (ty 0, 3, .inl (fa (ug (ug (ug w 0 to) 1 to) 2 to)))) := by rw [hws3_]; exact gs_s h2_1
              have h3_2 : ws3_[(si 2)]? = some (sd 2, .inl (ty 0, 2, .inl (fa q))) := by rw [hws3_]; exact gs_n n_si1_si2 h2_2
              have h3_3 : ws3_[mi]? = some (md, .inr (6, [.int (ii st), .int (ii rp), .int (ii fr), .int (ii to)])) := by rw [hws3_]; exact gs_n n_si1_mi h2_3
              refine li_iinc (a := 2) (lv' := [(2, .int (ii 3)), (0, .ref md), (1, .ref (sd 0))]) hx hb dX5_moves_29 hl (k := 0) rfl (by decide) rfl (fun ls hl => ?_)
              refine lv_goto (tgt := 2) hx hb dX5_moves_32 (by decide) ?_
              refine lv_iload_n hx hb dX5_moves_2 rfl (lv_at hl 0 rfl) ?_
              refine li_iconst hx hb dX5_moves_3 ?_
              refine li_icmp_ge (tgt := 35) hx hb ⟨by decide, by decide⟩ ⟨by decide, by decide⟩ dX5_moves_4 (by decide) (fun c4 => ?_) (fun c4 => ?_)
              · exact eMv hQ hx hb hr hlk hP hD hS (Nat.le_of_ble_eq_true rfl) (Nat.le_of_ble_eq_true rfl) dX5_moves_35 (⟨rfl, by have e : (ug (ug (ug w 0 to) 1 to) 2 to) = mvw st to w := (by funext i; simp only [mvw, ug]; omega); rw [hws3_, hws2_, hws1_]; (try simp only [List.set_set]); rw [e]⟩)
              · exact absurd c4 (by decide)
set_option maxHeartbeats 4000000 in
theorem m_does0_7 (l : Launch) (G : va_G) (ty : Nat → ClassId) (ws : va_W) (si sd : Nat → Nat) (w q : Int → Int) (mi md : Nat) (st rp fr to : Int)  (hSp : spotAt ty ws si sd w q) (hM : moveAt ws 6 mi md st rp fr to) (hm : 0 ≤ st ∧ st ≤ 7 ∧ 0 ≤ rp ∧ rp ≤ 1 ∧ 0 ≤ fr ∧ fr ≤ 4 ∧ 0 ≤ to ∧ to ≤ 4) (n_si1_si0 : (si 1) ≠ (si 0)) (n_si1_si2 : (si 1) ≠ (si 2)) (n_si1_mi : (si 1) ≠ mi) : cM l yX5_does (ws_ yX5_does cX5_does 2 none) (rm4 1 0 0 22) G ty (ws) [.ref md, .ref (sd 0)] 0 0 (fun r W' => r = none ∧ W' = ws.set (si 1) (sd 1, .inl (ty 0, 3, .inl (fa (mvw st to w))))) := by
  refine cM.of (by decide) (Nat.le_of_ble_eq_true rfl) ?_
  intro p e s m args below meth c A Q H locs hQ hx hb hr hml hown hlk hname hts hK hP hD hS hA hX ls hl
  have hl : lv_has ls 2 [(0, .ref md), (1, .ref (sd 0))] := hl
  refine lv_aload_n hx hb dX5_does_0 rfl (lv_at hl 0 rfl) ?_
  refine lv_aload_n hx hb dX5_does_1 rfl (lv_at hl 1 rfl) ?_
  refine kM (va_runU (x := yX5_moves) (As := [.ref (sd 0)]) (rest := []) ⟨hx, hb, hml, hown, hts⟩ ((m_moves_7 l G ty ws si sd w q mi md st rp fr to hSp hM hm n_si1_si0 n_si1_si2 n_si1_mi) H.size) (va_cwU (own := "DownRope$Move") (index := 57) (C := "DownRope$Single") (owner := "DownRope$Move") (x := yX5_moves) (y := yX5_moves) 1 hts (lw_app (lw_in _ [515, 518, 523, 516, 80] (by decide +kernel) (by decide +kernel)) (lw_meth q525)) rfl rfl rfl rfl (by decide +kernel) ⟨Nat.le_of_ble_eq_true rfl, Nat.le_of_ble_eq_true rfl⟩) (pvM (r := (RX7, TX7, 4)) hK hP hD hX mi hM rfl) rfl rfl hl.1 rfl (lv_room (Nat.le_of_ble_eq_true rfl)) dX5_does_2 ⟨Nat.le_of_ble_eq_true rfl, Nat.le_of_ble_eq_true rfl⟩) hD hS hA (fun v ws1 H locs hv hP hD hS => ?_)
  obtain ⟨rfl, rfl⟩ := hv
  obtain ⟨ws1_, hws1_⟩ : ∃ z, z = (ws.set (si 1) (sd 1, .inl (ty 0, 3, .inl (fa (mvw st to w))))) := ⟨_, rfl⟩
  replace hP : va_P G gcl ws1_ H := by rw [hws1_]; exact hP
  replace hD : va_D A ws1_ := by rw [hws1_]; exact hD
  have h1_0 : ws1_[(si 0)]? = some (sd 0, .inr (2, [.ref (sd 1), .ref (sd 2)])) := by rw [hws1_]; exact gs_n n_si1_si0 hSp.1
  have h1_1 : ws1_[(si 1)]? = some (sd 1, .inl (ty 0, 3, .inl (fa (mvw st to w)))) := by rw [hws1_]; exact gs_s hSp.2.1
  have h1_2 : ws1_[(si 2)]? = some (sd 2, .inl (ty 0, 2, .inl (fa q))) := by rw [hws1_]; exact gs_n n_si1_si2 hSp.2.2
  have h1_3 : ws1_[mi]? = some (md, .inr (6, [.int (ii st), .int (ii rp), .int (ii fr), .int (ii to)])) := by rw [hws1_]; exact gs_n n_si1_mi hM
  exact eMv hQ hx hb hr hlk hP hD hS (Nat.le_of_ble_eq_true rfl) (Nat.le_of_ble_eq_true rfl) dX5_does_5 (⟨rfl, by rw [hws1_]⟩)
set_option maxHeartbeats 4000000 in
theorem m_moves_8 (l : Launch) (G : va_G) (ty : Nat → ClassId) (ws : va_W) (si sd : Nat → Nat) (w q : Int → Int) (mi md : Nat) (st rp fr to : Int)  (hSp : spotAt ty ws si sd w q) (hM : moveAt ws 7 mi md st rp fr to) (hm : 0 ≤ st ∧ st ≤ 7 ∧ 0 ≤ rp ∧ rp ≤ 1 ∧ 0 ≤ fr ∧ fr ≤ 4 ∧ 0 ≤ to ∧ to ≤ 4) (n_si1_si0 : (si 1) ≠ (si 0)) (n_si1_si2 : (si 1) ≠ (si 2)) (n_si1_mi : (si 1) ≠ mi) : cM l yX5_moves (ws_ yX5_moves cX5_moves 3 none) (rm4 0 0 0 0) G ty (ws) [.ref md, .ref (sd 0)] 0 0 (fun r W' => r = none ∧ W' = ws.set (si 1) (sd 1, .inl (ty 0, 3, .inl (fa (mvw st to w))))) := by
  refine cM.of (by decide) (Nat.le_of_ble_eq_true rfl) ?_
  intro p e s m args below meth c A Q H locs hQ hx hb hr hml hown hlk hname hts hK hP hD hS hA hX ls hl
  have hl : lv_has ls 3 [(0, .ref md), (1, .ref (sd 0))] := hl
  obtain ⟨hm0, hm1, hm2, hm3, hm4, hm5, hm6, hm7⟩ := id hm
  refine li_iconst hx hb dX5_moves_0 ?_
  refine lv_istore_n (lv' := [(2, .int (ii 0)), (0, .ref md), (1, .ref (sd 0))]) hx hb dX5_moves_1 rfl hl (by decide) rfl (fun ls hl => ?_)
  refine lv_iload_n hx hb dX5_moves_2 rfl (lv_at hl 0 rfl) ?_
  refine li_iconst hx hb dX5_moves_3 ?_
  refine li_icmp_ge (tgt := 35) hx hb ⟨by decide, by decide⟩ ⟨by decide, by decide⟩ dX5_moves_4 (by decide) (fun c4 => ?_) (fun c4 => ?_)
  · exact absurd c4 (by decide)
  · refine lv_aload_n hx hb dX5_moves_7 rfl (lv_at hl 1 rfl) ?_
    refine va_get (D := G) (fs := [.int (ii st), .int (ii rp), .int (ii fr), .int (ii to)]) (ci := 7) (v := .int (ii st)) (C := RX8) (T := TX8) (N := 4) hx hb hts in_X8 hown hK hP mi hM rfl 0 (by decide) (hts _ q861) (fun _ h9 => h9) rfl dX5_moves_8 ?_
    refine lv_iload_n hx hb dX5_moves_11 rfl (lv_at hl 0 rfl) ?_
    refine lv_ishr hx hb dX5_moves_12 ?_
    refine li_topx (z := st) (ii_shr0 (by omega) (by omega)) ?_
    refine li_iconst hx hb dX5_moves_13 ?_
    refine lv_iand hx hb dX5_moves_14 ?_
    refine li_topx (z := st % 2) (ii_and1 (by omega) (by omega)) ?_
    refine li_iconst hx hb dX5_moves_15 ?_
    refine li_icmp_ne (tgt := 29) hx hb ⟨by omega, by omega⟩ ⟨by decide, by decide⟩ dX5_moves_16 (by decide) (fun c16 => ?_) (fun c16 => ?_)
    · refine li_iinc (a := 0) (lv' := [(2, .int (ii 1)), (0, .ref md), (1, .ref (sd 0))]) hx hb dX5_moves_29 hl (k := 0) rfl (by decide) rfl (fun ls hl => ?_)
      refine lv_goto (tgt := 2) hx hb dX5_moves_32 (by decide) ?_
      refine lv_iload_n hx hb dX5_moves_2 rfl (lv_at hl 0 rfl) ?_
      refine li_iconst hx hb dX5_moves_3 ?_
      refine li_icmp_ge (tgt := 35) hx hb ⟨by decide, by decide⟩ ⟨by decide, by decide⟩ dX5_moves_4 (by decide) (fun c4 => ?_) (fun c4 => ?_)
      · exact absurd c4 (by decide)
      · refine lv_aload_n hx hb dX5_moves_7 rfl (lv_at hl 1 rfl) ?_
        refine va_get (D := G) (fs := [.int (ii st), .int (ii rp), .int (ii fr), .int (ii to)]) (ci := 7) (v := .int (ii st)) (C := RX8) (T := TX8) (N := 4) hx hb hts in_X8 hown hK hP mi hM rfl 0 (by decide) (hts _ q861) (fun _ h9 => h9) rfl dX5_moves_8 ?_
        refine lv_iload_n hx hb dX5_moves_11 rfl (lv_at hl 0 rfl) ?_
        refine lv_ishr hx hb dX5_moves_12 ?_
        refine li_topx (z := st / 2) (ii_shr1 (by omega) (by omega)) ?_
        refine li_iconst hx hb dX5_moves_13 ?_
        refine lv_iand hx hb dX5_moves_14 ?_
        refine li_topx (z := (st / 2) % 2) (ii_and1 (by omega) (by omega)) ?_
        refine li_iconst hx hb dX5_moves_15 ?_
        refine li_icmp_ne (tgt := 29) hx hb ⟨by omega, by omega⟩ ⟨by decide, by decide⟩ dX5_moves_16 (by decide) (fun c16 => ?_) (fun c16 => ?_)
        · refine li_iinc (a := 1) (lv' := [(2, .int (ii 2)), (0, .ref md), (1, .ref (sd 0))]) hx hb dX5_moves_29 hl (k := 0) rfl (by decide) rfl (fun ls hl => ?_)
          refine lv_goto (tgt := 2) hx hb dX5_moves_32 (by decide) ?_
          refine lv_iload_n hx hb dX5_moves_2 rfl (lv_at hl 0 rfl) ?_
          refine li_iconst hx hb dX5_moves_3 ?_
          refine li_icmp_ge (tgt := 35) hx hb ⟨by decide, by decide⟩ ⟨by decide, by decide⟩ dX5_moves_4 (by decide) (fun c4 => ?_) (fun c4 => ?_)
          · exact absurd c4 (by decide)
          · refine lv_aload_n hx hb dX5_moves_7 rfl (lv_at hl 1 rfl) ?_
            refine va_get (D := G) (fs := [.int (ii st), .int (ii rp), .int (ii fr), .int (ii to)]) (ci := 7) (v := .int (ii st)) (C := RX8) (T := TX8) (N := 4) hx hb hts in_X8 hown hK hP mi hM rfl 0 (by decide) (hts _ q861) (fun _ h9 => h9) rfl dX5_moves_8 ?_
            refine lv_iload_n hx hb dX5_moves_11 rfl (lv_at hl 0 rfl) ?_
            refine lv_ishr hx hb dX5_moves_12 ?_
            refine li_topx (z := st / 4) (ii_shr2 (by omega) (by omega)) ?_
            refine li_iconst hx hb dX5_moves_13 ?_
            refine lv_iand hx hb dX5_moves_14 ?_
            refine li_topx (z := (st / 4) % 2) (ii_and1 (by omega) (by omega)) ?_
            refine li_iconst hx hb dX5_moves_15 ?_
            refine li_icmp_ne (tgt := 29) hx hb ⟨by omega, by omega⟩ ⟨by decide, by decide⟩ dX5_moves_16 (by decide) (fun c16 => ?_) (fun c16 => ?_)
            · refine li_iinc (a := 2) (lv' := [(2, .int (ii 3)), (0, .ref md), (1, .ref (sd 0))]) hx hb dX5_moves_29 hl (k := 0) rfl (by decide) rfl (fun ls hl => ?_)
              refine lv_goto (tgt := 2) hx hb dX5_moves_32 (by decide) ?_
              refine lv_iload_n hx hb dX5_moves_2 rfl (lv_at hl 0 rfl) ?_
              refine li_iconst hx hb dX5_moves_3 ?_
              refine li_icmp_ge (tgt := 35) hx hb ⟨by decide, by decide⟩ ⟨by decide, by decide⟩ dX5_moves_4 (by decide) (fun c4 => ?_) (fun c4 => ?_)
              · exact eMv hQ hx hb hr hlk hP hD hS (Nat.le_of_ble_eq_true rfl) (Nat.le_of_ble_eq_true rfl) dX5_moves_35 (⟨rfl, by have e : (w) = mvw st to w := (by funext i; simp only [mvw, ug]; omega); rw [← e]; exact (set_same hSp.2.1).symm⟩)
              · exact absurd c4 (by decide)
            · refine lv_aload_n hx hb dX5_moves_19 rfl (lv_at hl 2 rfl) ?_
              refine va_get (D := G) (fs := [.ref (sd 1), .ref (sd 2)]) (ci := 2) (v := .ref (sd 1)) (C := RX3) (T := TX3) (N := 2) hx hb hts in_X3 hown hK hP (si 0) hSp.1 rfl 0 (by decide) (hts _ q655) (fun _ h9 => h9) rfl dX5_moves_20 ?_
              refine lv_iload_n hx hb dX5_moves_23 rfl (lv_at hl 0 rfl) ?_
              refine lv_aload_n hx hb dX5_moves_24 rfl (lv_at hl 1 rfl) ?_
              refine va_get (D := G) (fs := [.int (ii st), .int (ii rp), .int (ii fr), .int (ii to)]) (ci := 7) (v := .int (ii to)) (C := RX8) (T := TX8) (N := 4) hx hb hts in_X8 hown hK hP mi hM rfl 3 (by decide) (hts _ q900) (fun _ h9 => h9) rfl dX5_moves_25 ?_
              refine li_iast (g := w) (W2 := (ws.set (si 1) (sd 1, .inl (ty 0, 3, .inl (fa (ug w 2 to)))))) hx hb hK hP hD hS (si 1) 0 hSp.2.1 rfl (by decide) (by decide) (by decide) rfl dX5_moves_28 (fun H locs hP hD hS => ?_)
              obtain ⟨ws1_, hws1_⟩ : ∃ z, z = (ws.set (si 1) (sd 1, .inl (ty 0, 3, .inl (fa (ug w 2 to))))) := ⟨_, rfl⟩
              replace hP : va_P G gcl ws1_ H := by rw [hws1_]; exact hP
              replace hD : va_D A ws1_ := by rw [hws1_]; exact hD
              have h1_0 : ws1_[(si 0)]? = some (sd 0, .inr (2, [.ref (sd 1), .ref (sd 2)])) := by rw [hws1_]; exact gs_n n_si1_si0 hSp.1
              have h1_1 : ws1_[(si 1)]? = some (sd 1, .inl (ty 0, 3, .inl (fa (ug w 2 to)))) := by rw [hws1_]; exact gs_s hSp.2.1
              have h1_2 : ws1_[(si 2)]? = some (sd 2, .inl (ty 0, 2, .inl (fa q))) := by rw [hws1_]; exact gs_n n_si1_si2 hSp.2.2
              have h1_3 : ws1_[mi]? = some (md, .inr (7, [.int (ii st), .int (ii rp), .int (ii fr), .int (ii to)])) := by rw [hws1_]; exact gs_n n_si1_mi hM
              refine li_iinc (a := 2) (lv' := [(2, .int (ii 3)), (0, .ref md), (1, .ref (sd 0))]) hx hb dX5_moves_29 hl (k := 0) rfl (by decide) rfl (fun ls hl => ?_)
              refine lv_goto (tgt := 2) hx hb dX5_moves_32 (by decide) ?_
              refine lv_iload_n hx hb dX5_moves_2 rfl (lv_at hl 0 rfl) ?_
              refine li_iconst hx hb dX5_moves_3 ?_
              refine li_icmp_ge (tgt := 35) hx hb ⟨by decide, by decide⟩ ⟨by decide, by decide⟩ dX5_moves_4 (by decide) (fun c4 => ?_) (fun c4 => ?_)
              · exact eMv hQ hx hb hr hlk hP hD hS (Nat.le_of_ble_eq_true rfl) (Nat.le_of_ble_eq_true rfl) dX5_moves_35 (⟨rfl, by have e : (ug w 2 to) = mvw st to w := (by funext i; simp only [mvw, ug]; omega); rw [hws1_]; (try simp only [List.set_set]); rw [e]⟩)
              · exact absurd c4 (by decide)
        · refine lv_aload_n hx hb dX5_moves_19 rfl (lv_at hl 2 rfl) ?_
          refine va_get (D := G) (fs := [.ref (sd 1), .ref (sd 2)]) (ci := 2) (v := .ref (sd 1)) (C := RX3) (T := TX3) (N := 2) hx hb hts in_X3 hown hK hP (si 0) hSp.1 rfl 0 (by decide) (hts _ q655) (fun _ h9 => h9) rfl dX5_moves_20 ?_
          refine lv_iload_n hx hb dX5_moves_23 rfl (lv_at hl 0 rfl) ?_
          refine lv_aload_n hx hb dX5_moves_24 rfl (lv_at hl 1 rfl) ?_
          refine va_get (D := G) (fs := [.int (ii st), .int (ii rp), .int (ii fr), .int (ii to)]) (ci := 7) (v := .int (ii to)) (C := RX8) (T := TX8) (N := 4) hx hb hts in_X8 hown hK hP mi hM rfl 3 (by decide) (hts _ q900) (fun _ h9 => h9) rfl dX5_moves_25 ?_
          refine li_iast (g := w) (W2 := (ws.set (si 1) (sd 1, .inl (ty 0, 3, .inl (fa (ug w 1 to)))))) hx hb hK hP hD hS (si 1) 0 hSp.2.1 rfl (by decide) (by decide) (by decide) rfl dX5_moves_28 (fun H locs hP hD hS => ?_)
          obtain ⟨ws1_, hws1_⟩ : ∃ z, z = (ws.set (si 1) (sd 1, .inl (ty 0, 3, .inl (fa (ug w 1 to))))) := ⟨_, rfl⟩
          replace hP : va_P G gcl ws1_ H := by rw [hws1_]; exact hP
          replace hD : va_D A ws1_ := by rw [hws1_]; exact hD
          have h1_0 : ws1_[(si 0)]? = some (sd 0, .inr (2, [.ref (sd 1), .ref (sd 2)])) := by rw [hws1_]; exact gs_n n_si1_si0 hSp.1
          have h1_1 : ws1_[(si 1)]? = some (sd 1, .inl (ty 0, 3, .inl (fa (ug w 1 to)))) := by rw [hws1_]; exact gs_s hSp.2.1
          have h1_2 : ws1_[(si 2)]? = some (sd 2, .inl (ty 0, 2, .inl (fa q))) := by rw [hws1_]; exact gs_n n_si1_si2 hSp.2.2
          have h1_3 : ws1_[mi]? = some (md, .inr (7, [.int (ii st), .int (ii rp), .int (ii fr), .int (ii to)])) := by rw [hws1_]; exact gs_n n_si1_mi hM
          refine li_iinc (a := 1) (lv' := [(2, .int (ii 2)), (0, .ref md), (1, .ref (sd 0))]) hx hb dX5_moves_29 hl (k := 0) rfl (by decide) rfl (fun ls hl => ?_)
          refine lv_goto (tgt := 2) hx hb dX5_moves_32 (by decide) ?_
          refine lv_iload_n hx hb dX5_moves_2 rfl (lv_at hl 0 rfl) ?_
          refine li_iconst hx hb dX5_moves_3 ?_
          refine li_icmp_ge (tgt := 35) hx hb ⟨by decide, by decide⟩ ⟨by decide, by decide⟩ dX5_moves_4 (by decide) (fun c4 => ?_) (fun c4 => ?_)
          · exact absurd c4 (by decide)
          · refine lv_aload_n hx hb dX5_moves_7 rfl (lv_at hl 1 rfl) ?_
            refine va_get (D := G) (fs := [.int (ii st), .int (ii rp), .int (ii fr), .int (ii to)]) (ci := 7) (v := .int (ii st)) (C := RX8) (T := TX8) (N := 4) hx hb hts in_X8 hown hK hP mi h1_3 rfl 0 (by decide) (hts _ q861) (fun _ h9 => h9) rfl dX5_moves_8 ?_
            refine lv_iload_n hx hb dX5_moves_11 rfl (lv_at hl 0 rfl) ?_
            refine lv_ishr hx hb dX5_moves_12 ?_
            refine li_topx (z := st / 4) (ii_shr2 (by omega) (by omega)) ?_
            refine li_iconst hx hb dX5_moves_13 ?_
            refine lv_iand hx hb dX5_moves_14 ?_
            refine li_topx (z := (st / 4) % 2) (ii_and1 (by omega) (by omega)) ?_
            refine li_iconst hx hb dX5_moves_15 ?_
            refine li_icmp_ne (tgt := 29) hx hb ⟨by omega, by omega⟩ ⟨by decide, by decide⟩ dX5_moves_16 (by decide) (fun c16 => ?_) (fun c16 => ?_)
            · refine li_iinc (a := 2) (lv' := [(2, .int (ii 3)), (0, .ref md), (1, .ref (sd 0))]) hx hb dX5_moves_29 hl (k := 0) rfl (by decide) rfl (fun ls hl => ?_)
              refine lv_goto (tgt := 2) hx hb dX5_moves_32 (by decide) ?_
              refine lv_iload_n hx hb dX5_moves_2 rfl (lv_at hl 0 rfl) ?_
              refine li_iconst hx hb dX5_moves_3 ?_
              refine li_icmp_ge (tgt := 35) hx hb ⟨by decide, by decide⟩ ⟨by decide, by decide⟩ dX5_moves_4 (by decide) (fun c4 => ?_) (fun c4 => ?_)
              · exact eMv hQ hx hb hr hlk hP hD hS (Nat.le_of_ble_eq_true rfl) (Nat.le_of_ble_eq_true rfl) dX5_moves_35 (⟨rfl, by have e : (ug w 1 to) = mvw st to w := (by funext i; simp only [mvw, ug]; omega); rw [hws1_]; (try simp only [List.set_set]); rw [e]⟩)
              · exact absurd c4 (by decide)
            · refine lv_aload_n hx hb dX5_moves_19 rfl (lv_at hl 2 rfl) ?_
              refine va_get (D := G) (fs := [.ref (sd 1), .ref (sd 2)]) (ci := 2) (v := .ref (sd 1)) (C := RX3) (T := TX3) (N := 2) hx hb hts in_X3 hown hK hP (si 0) h1_0 rfl 0 (by decide) (hts _ q655) (fun _ h9 => h9) rfl dX5_moves_20 ?_
              refine lv_iload_n hx hb dX5_moves_23 rfl (lv_at hl 0 rfl) ?_
              refine lv_aload_n hx hb dX5_moves_24 rfl (lv_at hl 1 rfl) ?_
              refine va_get (D := G) (fs := [.int (ii st), .int (ii rp), .int (ii fr), .int (ii to)]) (ci := 7) (v := .int (ii to)) (C := RX8) (T := TX8) (N := 4) hx hb hts in_X8 hown hK hP mi h1_3 rfl 3 (by decide) (hts _ q900) (fun _ h9 => h9) rfl dX5_moves_25 ?_
              refine li_iast (g := ug w 1 to) (W2 := (ws1_.set (si 1) (sd 1, .inl (ty 0, 3, .inl (fa (ug (ug w 1 to) 2 to)))))) hx hb hK hP hD hS (si 1) 0 h1_1 rfl (by decide) (by decide) (by decide) rfl dX5_moves_28 (fun H locs hP hD hS => ?_)
              obtain ⟨ws2_, hws2_⟩ : ∃ z, z = (ws1_.set (si 1) (sd 1, .inl (ty 0, 3, .inl (fa (ug (ug w 1 to) 2 to))))) := ⟨_, rfl⟩
              replace hP : va_P G gcl ws2_ H := by rw [hws2_]; exact hP
              replace hD : va_D A ws2_ := by rw [hws2_]; exact hD
              have h2_0 : ws2_[(si 0)]? = some (sd 0, .inr (2, [.ref (sd 1), .ref (sd 2)])) := by rw [hws2_]; exact gs_n n_si1_si0 h1_0
              have h2_1 : ws2_[(si 1)]? = some (sd 1, .inl (ty 0, 3, .inl (fa (ug (ug w 1 to) 2 to)))) := by rw [hws2_]; exact gs_s h1_1
              have h2_2 : ws2_[(si 2)]? = some (sd 2, .inl (ty 0, 2, .inl (fa q))) := by rw [hws2_]; exact gs_n n_si1_si2 h1_2
              have h2_3 : ws2_[mi]? = some (md, .inr (7, [.int (ii st), .int (ii rp), .int (ii fr), .int (ii to)])) := by rw [hws2_]; exact gs_n n_si1_mi h1_3
              refine li_iinc (a := 2) (lv' := [(2, .int (ii 3)), (0, .ref md), (1, .ref (sd 0))]) hx hb dX5_moves_29 hl (k := 0) rfl (by decide) rfl (fun ls hl => ?_)
              refine lv_goto (tgt := 2) hx hb dX5_moves_32 (by decide) ?_
              refine lv_iload_n hx hb dX5_moves_2 rfl (lv_at hl 0 rfl) ?_
              refine li_iconst hx hb dX5_moves_3 ?_
              refine li_icmp_ge (tgt := 35) hx hb ⟨by decide, by decide⟩ ⟨by decide, by decide⟩ dX5_moves_4 (by decide) (fun c4 => ?_) (fun c4 => ?_)
              · exact eMv hQ hx hb hr hlk hP hD hS (Nat.le_of_ble_eq_true rfl) (Nat.le_of_ble_eq_true rfl) dX5_moves_35 (⟨rfl, by have e : (ug (ug w 1 to) 2 to) = mvw st to w := (by funext i; simp only [mvw, ug]; omega); rw [hws2_, hws1_]; (try simp only [List.set_set]); rw [e]⟩)
              · exact absurd c4 (by decide)
    · refine lv_aload_n hx hb dX5_moves_19 rfl (lv_at hl 2 rfl) ?_
      refine va_get (D := G) (fs := [.ref (sd 1), .ref (sd 2)]) (ci := 2) (v := .ref (sd 1)) (C := RX3) (T := TX3) (N := 2) hx hb hts in_X3 hown hK hP (si 0) hSp.1 rfl 0 (by decide) (hts _ q655) (fun _ h9 => h9) rfl dX5_moves_20 ?_
      refine lv_iload_n hx hb dX5_moves_23 rfl (lv_at hl 0 rfl) ?_
      refine lv_aload_n hx hb dX5_moves_24 rfl (lv_at hl 1 rfl) ?_
      refine va_get (D := G) (fs := [.int (ii st), .int (ii rp), .int (ii fr), .int (ii to)]) (ci := 7) (v := .int (ii to)) (C := RX8) (T := TX8) (N := 4) hx hb hts in_X8 hown hK hP mi hM rfl 3 (by decide) (hts _ q900) (fun _ h9 => h9) rfl dX5_moves_25 ?_
      refine li_iast (g := w) (W2 := (ws.set (si 1) (sd 1, .inl (ty 0, 3, .inl (fa (ug w 0 to)))))) hx hb hK hP hD hS (si 1) 0 hSp.2.1 rfl (by decide) (by decide) (by decide) rfl dX5_moves_28 (fun H locs hP hD hS => ?_)
      obtain ⟨ws1_, hws1_⟩ : ∃ z, z = (ws.set (si 1) (sd 1, .inl (ty 0, 3, .inl (fa (ug w 0 to))))) := ⟨_, rfl⟩
      replace hP : va_P G gcl ws1_ H := by rw [hws1_]; exact hP
      replace hD : va_D A ws1_ := by rw [hws1_]; exact hD
      have h1_0 : ws1_[(si 0)]? = some (sd 0, .inr (2, [.ref (sd 1), .ref (sd 2)])) := by rw [hws1_]; exact gs_n n_si1_si0 hSp.1
      have h1_1 : ws1_[(si 1)]? = some (sd 1, .inl (ty 0, 3, .inl (fa (ug w 0 to)))) := by rw [hws1_]; exact gs_s hSp.2.1
      have h1_2 : ws1_[(si 2)]? = some (sd 2, .inl (ty 0, 2, .inl (fa q))) := by rw [hws1_]; exact gs_n n_si1_si2 hSp.2.2
      have h1_3 : ws1_[mi]? = some (md, .inr (7, [.int (ii st), .int (ii rp), .int (ii fr), .int (ii to)])) := by rw [hws1_]; exact gs_n n_si1_mi hM
      refine li_iinc (a := 0) (lv' := [(2, .int (ii 1)), (0, .ref md), (1, .ref (sd 0))]) hx hb dX5_moves_29 hl (k := 0) rfl (by decide) rfl (fun ls hl => ?_)
      refine lv_goto (tgt := 2) hx hb dX5_moves_32 (by decide) ?_
      refine lv_iload_n hx hb dX5_moves_2 rfl (lv_at hl 0 rfl) ?_
      refine li_iconst hx hb dX5_moves_3 ?_
      refine li_icmp_ge (tgt := 35) hx hb ⟨by decide, by decide⟩ ⟨by decide, by decide⟩ dX5_moves_4 (by decide) (fun c4 => ?_) (fun c4 => ?_)
      · exact absurd c4 (by decide)
      · refine lv_aload_n hx hb dX5_moves_7 rfl (lv_at hl 1 rfl) ?_
        refine va_get (D := G) (fs := [.int (ii st), .int (ii rp), .int (ii fr), .int (ii to)]) (ci := 7) (v := .int (ii st)) (C := RX8) (T := TX8) (N := 4) hx hb hts in_X8 hown hK hP mi h1_3 rfl 0 (by decide) (hts _ q861) (fun _ h9 => h9) rfl dX5_moves_8 ?_
        refine lv_iload_n hx hb dX5_moves_11 rfl (lv_at hl 0 rfl) ?_
        refine lv_ishr hx hb dX5_moves_12 ?_
        refine li_topx (z := st / 2) (ii_shr1 (by omega) (by omega)) ?_
        refine li_iconst hx hb dX5_moves_13 ?_
        refine lv_iand hx hb dX5_moves_14 ?_
        refine li_topx (z := (st / 2) % 2) (ii_and1 (by omega) (by omega)) ?_
        refine li_iconst hx hb dX5_moves_15 ?_
        refine li_icmp_ne (tgt := 29) hx hb ⟨by omega, by omega⟩ ⟨by decide, by decide⟩ dX5_moves_16 (by decide) (fun c16 => ?_) (fun c16 => ?_)
        · refine li_iinc (a := 1) (lv' := [(2, .int (ii 2)), (0, .ref md), (1, .ref (sd 0))]) hx hb dX5_moves_29 hl (k := 0) rfl (by decide) rfl (fun ls hl => ?_)
          refine lv_goto (tgt := 2) hx hb dX5_moves_32 (by decide) ?_
          refine lv_iload_n hx hb dX5_moves_2 rfl (lv_at hl 0 rfl) ?_
          refine li_iconst hx hb dX5_moves_3 ?_
          refine li_icmp_ge (tgt := 35) hx hb ⟨by decide, by decide⟩ ⟨by decide, by decide⟩ dX5_moves_4 (by decide) (fun c4 => ?_) (fun c4 => ?_)
          · exact absurd c4 (by decide)
          · refine lv_aload_n hx hb dX5_moves_7 rfl (lv_at hl 1 rfl) ?_
            refine va_get (D := G) (fs := [.int (ii st), .int (ii rp), .int (ii fr), .int (ii to)]) (ci := 7) (v := .int (ii st)) (C := RX8) (T := TX8) (N := 4) hx hb hts in_X8 hown hK hP mi h1_3 rfl 0 (by decide) (hts _ q861) (fun _ h9 => h9) rfl dX5_moves_8 ?_
            refine lv_iload_n hx hb dX5_moves_11 rfl (lv_at hl 0 rfl) ?_
            refine lv_ishr hx hb dX5_moves_12 ?_
            refine li_topx (z := st / 4) (ii_shr2 (by omega) (by omega)) ?_
            refine li_iconst hx hb dX5_moves_13 ?_
            refine lv_iand hx hb dX5_moves_14 ?_
            refine li_topx (z := (st / 4) % 2) (ii_and1 (by omega) (by omega)) ?_
            refine li_iconst hx hb dX5_moves_15 ?_
            refine li_icmp_ne (tgt := 29) hx hb ⟨by omega, by omega⟩ ⟨by decide, by decide⟩ dX5_moves_16 (by decide) (fun c16 => ?_) (fun c16 => ?_)
            · refine li_iinc (a := 2) (lv' := [(2, .int (ii 3)), (0, .ref md), (1, .ref (sd 0))]) hx hb dX5_moves_29 hl (k := 0) rfl (by decide) rfl (fun ls hl => ?_)
              refine lv_goto (tgt := 2) hx hb dX5_moves_32 (by decide) ?_
              refine lv_iload_n hx hb dX5_moves_2 rfl (lv_at hl 0 rfl) ?_
              refine li_iconst hx hb dX5_moves_3 ?_
              refine li_icmp_ge (tgt := 35) hx hb ⟨by decide, by decide⟩ ⟨by decide, by decide⟩ dX5_moves_4 (by decide) (fun c4 => ?_) (fun c4 => ?_)
              · exact eMv hQ hx hb hr hlk hP hD hS (Nat.le_of_ble_eq_true rfl) (Nat.le_of_ble_eq_true rfl) dX5_moves_35 (⟨rfl, by have e : (ug w 0 to) = mvw st to w := (by funext i; simp only [mvw, ug]; omega); rw [hws1_]; (try simp only [List.set_set]); rw [e]⟩)
              · exact absurd c4 (by decide)
            · refine lv_aload_n hx hb dX5_moves_19 rfl (lv_at hl 2 rfl) ?_
              refine va_get (D := G) (fs := [.ref (sd 1), .ref (sd 2)]) (ci := 2) (v := .ref (sd 1)) (C := RX3) (T := TX3) (N := 2) hx hb hts in_X3 hown hK hP (si 0) h1_0 rfl 0 (by decide) (hts _ q655) (fun _ h9 => h9) rfl dX5_moves_20 ?_
              refine lv_iload_n hx hb dX5_moves_23 rfl (lv_at hl 0 rfl) ?_
              refine lv_aload_n hx hb dX5_moves_24 rfl (lv_at hl 1 rfl) ?_
              refine va_get (D := G) (fs := [.int (ii st), .int (ii rp), .int (ii fr), .int (ii to)]) (ci := 7) (v := .int (ii to)) (C := RX8) (T := TX8) (N := 4) hx hb hts in_X8 hown hK hP mi h1_3 rfl 3 (by decide) (hts _ q900) (fun _ h9 => h9) rfl dX5_moves_25 ?_
              refine li_iast (g := ug w 0 to) (W2 := (ws1_.set (si 1) (sd 1, .inl (ty 0, 3, .inl (fa (ug (ug w 0 to) 2 to)))))) hx hb hK hP hD hS (si 1) 0 h1_1 rfl (by decide) (by decide) (by decide) rfl dX5_moves_28 (fun H locs hP hD hS => ?_)
              obtain ⟨ws2_, hws2_⟩ : ∃ z, z = (ws1_.set (si 1) (sd 1, .inl (ty 0, 3, .inl (fa (ug (ug w 0 to) 2 to))))) := ⟨_, rfl⟩
              replace hP : va_P G gcl ws2_ H := by rw [hws2_]; exact hP
              replace hD : va_D A ws2_ := by rw [hws2_]; exact hD
              have h2_0 : ws2_[(si 0)]? = some (sd 0, .inr (2, [.ref (sd 1), .ref (sd 2)])) := by rw [hws2_]; exact gs_n n_si1_si0 h1_0
              have h2_1 : ws2_[(si 1)]? = some (sd 1, .inl (ty 0, 3, .inl (fa (ug (ug w 0 to) 2 to)))) := by rw [hws2_]; exact gs_s h1_1
              have h2_2 : ws2_[(si 2)]? = some (sd 2, .inl (ty 0, 2, .inl (fa q))) := by rw [hws2_]; exact gs_n n_si1_si2 h1_2
              have h2_3 : ws2_[mi]? = some (md, .inr (7, [.int (ii st), .int (ii rp), .int (ii fr), .int (ii to)])) := by rw [hws2_]; exact gs_n n_si1_mi h1_3
              refine li_iinc (a := 2) (lv' := [(2, .int (ii 3)), (0, .ref md), (1, .ref (sd 0))]) hx hb dX5_moves_29 hl (k := 0) rfl (by decide) rfl (fun ls hl => ?_)
              refine lv_goto (tgt := 2) hx hb dX5_moves_32 (by decide) ?_
              refine lv_iload_n hx hb dX5_moves_2 rfl (lv_at hl 0 rfl) ?_
              refine li_iconst hx hb dX5_moves_3 ?_
              refine li_icmp_ge (tgt := 35) hx hb ⟨by decide, by decide⟩ ⟨by decide, by decide⟩ dX5_moves_4 (by decide) (fun c4 => ?_) (fun c4 => ?_)
              · exact eMv hQ hx hb hr hlk hP hD hS (Nat.le_of_ble_eq_true rfl) (Nat.le_of_ble_eq_true rfl) dX5_moves_35 (⟨rfl, by have e : (ug (ug w 0 to) 2 to) = mvw st to w := (by funext i; simp only [mvw, ug]; omega); rw [hws2_, hws1_]; (try simp only [List.set_set]); rw [e]⟩)
              · exact absurd c4 (by decide)
        · refine lv_aload_n hx hb dX5_moves_19 rfl (lv_at hl 2 rfl) ?_
          refine va_get (D := G) (fs := [.ref (sd 1), .ref (sd 2)]) (ci := 2) (v := .ref (sd 1)) (C := RX3) (T := TX3) (N := 2) hx hb hts in_X3 hown hK hP (si 0) h1_0 rfl 0 (by decide) (hts _ q655) (fun _ h9 => h9) rfl dX5_moves_20 ?_
          refine lv_iload_n hx hb dX5_moves_23 rfl (lv_at hl 0 rfl) ?_
          refine lv_aload_n hx hb dX5_moves_24 rfl (lv_at hl 1 rfl) ?_
          refine va_get (D := G) (fs := [.int (ii st), .int (ii rp), .int (ii fr), .int (ii to)]) (ci := 7) (v := .int (ii to)) (C := RX8) (T := TX8) (N := 4) hx hb hts in_X8 hown hK hP mi h1_3 rfl 3 (by decide) (hts _ q900) (fun _ h9 => h9) rfl dX5_moves_25 ?_
          refine li_iast (g := ug w 0 to) (W2 := (ws1_.set (si 1) (sd 1, .inl (ty 0, 3, .inl (fa (ug (ug w 0 to) 1 to)))))) hx hb hK hP hD hS (si 1) 0 h1_1 rfl (by decide) (by decide) (by decide) rfl dX5_moves_28 (fun H locs hP hD hS => ?_)
          obtain ⟨ws2_, hws2_⟩ : ∃ z, z = (ws1_.set (si 1) (sd 1, .inl (ty 0, 3, .inl (fa (ug (ug w 0 to) 1 to))))) := ⟨_, rfl⟩
          replace hP : va_P G gcl ws2_ H := by rw [hws2_]; exact hP
          replace hD : va_D A ws2_ := by rw [hws2_]; exact hD
          have h2_0 : ws2_[(si 0)]? = some (sd 0, .inr (2, [.ref (sd 1), .ref (sd 2)])) := by rw [hws2_]; exact gs_n n_si1_si0 h1_0
          have h2_1 : ws2_[(si 1)]? = some (sd 1, .inl (ty 0, 3, .inl (fa (ug (ug w 0 to) 1 to)))) := by rw [hws2_]; exact gs_s h1_1
          have h2_2 : ws2_[(si 2)]? = some (sd 2, .inl (ty 0, 2, .inl (fa q))) := by rw [hws2_]; exact gs_n n_si1_si2 h1_2
          have h2_3 : ws2_[mi]? = some (md, .inr (7, [.int (ii st), .int (ii rp), .int (ii fr), .int (ii to)])) := by rw [hws2_]; exact gs_n n_si1_mi h1_3
          refine li_iinc (a := 1) (lv' := [(2, .int (ii 2)), (0, .ref md), (1, .ref (sd 0))]) hx hb dX5_moves_29 hl (k := 0) rfl (by decide) rfl (fun ls hl => ?_)
          refine lv_goto (tgt := 2) hx hb dX5_moves_32 (by decide) ?_
          refine lv_iload_n hx hb dX5_moves_2 rfl (lv_at hl 0 rfl) ?_
          refine li_iconst hx hb dX5_moves_3 ?_
          refine li_icmp_ge (tgt := 35) hx hb ⟨by decide, by decide⟩ ⟨by decide, by decide⟩ dX5_moves_4 (by decide) (fun c4 => ?_) (fun c4 => ?_)
          · exact absurd c4 (by decide)
          · refine lv_aload_n hx hb dX5_moves_7 rfl (lv_at hl 1 rfl) ?_
            refine va_get (D := G) (fs := [.int (ii st), .int (ii rp), .int (ii fr), .int (ii to)]) (ci := 7) (v := .int (ii st)) (C := RX8) (T := TX8) (N := 4) hx hb hts in_X8 hown hK hP mi h2_3 rfl 0 (by decide) (hts _ q861) (fun _ h9 => h9) rfl dX5_moves_8 ?_
            refine lv_iload_n hx hb dX5_moves_11 rfl (lv_at hl 0 rfl) ?_
            refine lv_ishr hx hb dX5_moves_12 ?_
            refine li_topx (z := st / 4) (ii_shr2 (by omega) (by omega)) ?_
            refine li_iconst hx hb dX5_moves_13 ?_
            refine lv_iand hx hb dX5_moves_14 ?_
            refine li_topx (z := (st / 4) % 2) (ii_and1 (by omega) (by omega)) ?_
            refine li_iconst hx hb dX5_moves_15 ?_
            refine li_icmp_ne (tgt := 29) hx hb ⟨by omega, by omega⟩ ⟨by decide, by decide⟩ dX5_moves_16 (by decide) (fun c16 => ?_) (fun c16 => ?_)
            · refine li_iinc (a := 2) (lv' := [(2, .int (ii 3)), (0, .ref md), (1, .ref (sd 0))]) hx hb dX5_moves_29 hl (k := 0) rfl (by decide) rfl (fun ls hl => ?_)
              refine lv_goto (tgt := 2) hx hb dX5_moves_32 (by decide) ?_
              refine lv_iload_n hx hb dX5_moves_2 rfl (lv_at hl 0 rfl) ?_
              refine li_iconst hx hb dX5_moves_3 ?_
              refine li_icmp_ge (tgt := 35) hx hb ⟨by decide, by decide⟩ ⟨by decide, by decide⟩ dX5_moves_4 (by decide) (fun c4 => ?_) (fun c4 => ?_)
              · exact eMv hQ hx hb hr hlk hP hD hS (Nat.le_of_ble_eq_true rfl) (Nat.le_of_ble_eq_true rfl) dX5_moves_35 (⟨rfl, by have e : (ug (ug w 0 to) 1 to) = mvw st to w := (by funext i; simp only [mvw, ug]; omega); rw [hws2_, hws1_]; (try simp only [List.set_set]); rw [e]⟩)
              · exact absurd c4 (by decide)
            · refine lv_aload_n hx hb dX5_moves_19 rfl (lv_at hl 2 rfl) ?_
              refine va_get (D := G) (fs := [.ref (sd 1), .ref (sd 2)]) (ci := 2) (v := .ref (sd 1)) (C := RX3) (T := TX3) (N := 2) hx hb hts in_X3 hown hK hP (si 0) h2_0 rfl 0 (by decide) (hts _ q655) (fun _ h9 => h9) rfl dX5_moves_20 ?_
              refine lv_iload_n hx hb dX5_moves_23 rfl (lv_at hl 0 rfl) ?_
              refine lv_aload_n hx hb dX5_moves_24 rfl (lv_at hl 1 rfl) ?_
              refine va_get (D := G) (fs := [.int (ii st), .int (ii rp), .int (ii fr), .int (ii to)]) (ci := 7) (v := .int (ii to)) (C := RX8) (T := TX8) (N := 4) hx hb hts in_X8 hown hK hP mi h2_3 rfl 3 (by decide) (hts _ q900) (fun _ h9 => h9) rfl dX5_moves_25 ?_
              refine li_iast (g := ug (ug w 0 to) 1 to) (W2 := (ws2_.set (si 1) (sd 1, .inl (ty 0, 3, .inl (fa (ug (ug (ug w 0 to) 1 to) 2 to)))))) hx hb hK hP hD hS (si 1) 0 h2_1 rfl (by decide) (by decide) (by decide) rfl dX5_moves_28 (fun H locs hP hD hS => ?_)
              obtain ⟨ws3_, hws3_⟩ : ∃ z, z = (ws2_.set (si 1) (sd 1, .inl (ty 0, 3, .inl (fa (ug (ug (ug w 0 to) 1 to) 2 to))))) := ⟨_, rfl⟩
              replace hP : va_P G gcl ws3_ H := by rw [hws3_]; exact hP
              replace hD : va_D A ws3_ := by rw [hws3_]; exact hD
              have h3_0 : ws3_[(si 0)]? = some (sd 0, .inr (2, [.ref (sd 1), .ref (sd 2)])) := by rw [hws3_]; exact gs_n n_si1_si0 h2_0
              have h3_1 : ws3_[(si 1)]? = some (sd 1, .inl (ty 0, 3, .inl (fa (ug (ug (ug w 0 to) 1 to) 2 to)))) := by rw [hws3_]; exact gs_s h2_1
              have h3_2 : ws3_[(si 2)]? = some (sd 2, .inl (ty 0, 2, .inl (fa q))) := by rw [hws3_]; exact gs_n n_si1_si2 h2_2
              have h3_3 : ws3_[mi]? = some (md, .inr (7, [.int (ii st), .int (ii rp), .int (ii fr), .int (ii to)])) := by rw [hws3_]; exact gs_n n_si1_mi h2_3
              refine li_iinc (a := 2) (lv' := [(2, .int (ii 3)), (0, .ref md), (1, .ref (sd 0))]) hx hb dX5_moves_29 hl (k := 0) rfl (by decide) rfl (fun ls hl => ?_)
              refine lv_goto (tgt := 2) hx hb dX5_moves_32 (by decide) ?_
              refine lv_iload_n hx hb dX5_moves_2 rfl (lv_at hl 0 rfl) ?_
              refine li_iconst hx hb dX5_moves_3 ?_
              refine li_icmp_ge (tgt := 35) hx hb ⟨by decide, by decide⟩ ⟨by decide, by decide⟩ dX5_moves_4 (by decide) (fun c4 => ?_) (fun c4 => ?_)
              · exact eMv hQ hx hb hr hlk hP hD hS (Nat.le_of_ble_eq_true rfl) (Nat.le_of_ble_eq_true rfl) dX5_moves_35 (⟨rfl, by have e : (ug (ug (ug w 0 to) 1 to) 2 to) = mvw st to w := (by funext i; simp only [mvw, ug]; omega); rw [hws3_, hws2_, hws1_]; (try simp only [List.set_set]); rw [e]⟩)
              · exact absurd c4 (by decide)
set_option maxHeartbeats 4000000 in
theorem m_does0_8 (l : Launch) (G : va_G) (ty : Nat → ClassId) (ws : va_W) (si sd : Nat → Nat) (w q : Int → Int) (mi md : Nat) (st rp fr to : Int)  (hSp : spotAt ty ws si sd w q) (hM : moveAt ws 7 mi md st rp fr to) (hm : 0 ≤ st ∧ st ≤ 7 ∧ 0 ≤ rp ∧ rp ≤ 1 ∧ 0 ≤ fr ∧ fr ≤ 4 ∧ 0 ≤ to ∧ to ≤ 4) (n_si1_si0 : (si 1) ≠ (si 0)) (n_si1_si2 : (si 1) ≠ (si 2)) (n_si1_mi : (si 1) ≠ mi) : cM l yX5_does (ws_ yX5_does cX5_does 2 none) (rm4 1 0 0 22) G ty (ws) [.ref md, .ref (sd 0)] 0 0 (fun r W' => r = none ∧ W' = ws.set (si 1) (sd 1, .inl (ty 0, 3, .inl (fa (mvw st to w))))) := by
  refine cM.of (by decide) (Nat.le_of_ble_eq_true rfl) ?_
  intro p e s m args below meth c A Q H locs hQ hx hb hr hml hown hlk hname hts hK hP hD hS hA hX ls hl
  have hl : lv_has ls 2 [(0, .ref md), (1, .ref (sd 0))] := hl
  refine lv_aload_n hx hb dX5_does_0 rfl (lv_at hl 0 rfl) ?_
  refine lv_aload_n hx hb dX5_does_1 rfl (lv_at hl 1 rfl) ?_
  refine kM (va_runU (x := yX5_moves) (As := [.ref (sd 0)]) (rest := []) ⟨hx, hb, hml, hown, hts⟩ ((m_moves_8 l G ty ws si sd w q mi md st rp fr to hSp hM hm n_si1_si0 n_si1_si2 n_si1_mi) H.size) (va_cwU (own := "DownRope$Move") (index := 57) (C := "DownRope$Joined") (owner := "DownRope$Move") (x := yX5_moves) (y := yX5_moves) 1 hts (lw_app (lw_in _ [515, 518, 521, 516, 80] (by decide +kernel) (by decide +kernel)) (lw_meth q525)) rfl rfl rfl rfl (by decide +kernel) ⟨Nat.le_of_ble_eq_true rfl, Nat.le_of_ble_eq_true rfl⟩) (pvM (r := (RX8, TX8, 4)) hK hP hD hX mi hM rfl) rfl rfl hl.1 rfl (lv_room (Nat.le_of_ble_eq_true rfl)) dX5_does_2 ⟨Nat.le_of_ble_eq_true rfl, Nat.le_of_ble_eq_true rfl⟩) hD hS hA (fun v ws1 H locs hv hP hD hS => ?_)
  obtain ⟨rfl, rfl⟩ := hv
  obtain ⟨ws1_, hws1_⟩ : ∃ z, z = (ws.set (si 1) (sd 1, .inl (ty 0, 3, .inl (fa (mvw st to w))))) := ⟨_, rfl⟩
  replace hP : va_P G gcl ws1_ H := by rw [hws1_]; exact hP
  replace hD : va_D A ws1_ := by rw [hws1_]; exact hD
  have h1_0 : ws1_[(si 0)]? = some (sd 0, .inr (2, [.ref (sd 1), .ref (sd 2)])) := by rw [hws1_]; exact gs_n n_si1_si0 hSp.1
  have h1_1 : ws1_[(si 1)]? = some (sd 1, .inl (ty 0, 3, .inl (fa (mvw st to w)))) := by rw [hws1_]; exact gs_s hSp.2.1
  have h1_2 : ws1_[(si 2)]? = some (sd 2, .inl (ty 0, 2, .inl (fa q))) := by rw [hws1_]; exact gs_n n_si1_si2 hSp.2.2
  have h1_3 : ws1_[mi]? = some (md, .inr (7, [.int (ii st), .int (ii rp), .int (ii fr), .int (ii to)])) := by rw [hws1_]; exact gs_n n_si1_mi hM
  exact eMv hQ hx hb hr hlk hP hD hS (Nat.le_of_ble_eq_true rfl) (Nat.le_of_ble_eq_true rfl) dX5_does_5 (⟨rfl, by rw [hws1_]⟩)
set_option maxHeartbeats 4000000 in
theorem m_moves_9 (l : Launch) (G : va_G) (ty : Nat → ClassId) (ws : va_W) (si sd : Nat → Nat) (w q : Int → Int) (mi md : Nat) (st rp fr to : Int)  (hSp : spotAt ty ws si sd w q) (hM : moveAt ws 8 mi md st rp fr to) (hm : 0 ≤ st ∧ st ≤ 7 ∧ 0 ≤ rp ∧ rp ≤ 1 ∧ 0 ≤ fr ∧ fr ≤ 4 ∧ 0 ≤ to ∧ to ≤ 4) (n_si1_si0 : (si 1) ≠ (si 0)) (n_si1_si2 : (si 1) ≠ (si 2)) (n_si1_mi : (si 1) ≠ mi) : cM l yX5_moves (ws_ yX5_moves cX5_moves 3 none) (rm4 0 0 0 0) G ty (ws) [.ref md, .ref (sd 0)] 0 0 (fun r W' => r = none ∧ W' = ws.set (si 1) (sd 1, .inl (ty 0, 3, .inl (fa (mvw st to w))))) := by
  refine cM.of (by decide) (Nat.le_of_ble_eq_true rfl) ?_
  intro p e s m args below meth c A Q H locs hQ hx hb hr hml hown hlk hname hts hK hP hD hS hA hX ls hl
  have hl : lv_has ls 3 [(0, .ref md), (1, .ref (sd 0))] := hl
  obtain ⟨hm0, hm1, hm2, hm3, hm4, hm5, hm6, hm7⟩ := id hm
  refine li_iconst hx hb dX5_moves_0 ?_
  refine lv_istore_n (lv' := [(2, .int (ii 0)), (0, .ref md), (1, .ref (sd 0))]) hx hb dX5_moves_1 rfl hl (by decide) rfl (fun ls hl => ?_)
  refine lv_iload_n hx hb dX5_moves_2 rfl (lv_at hl 0 rfl) ?_
  refine li_iconst hx hb dX5_moves_3 ?_
  refine li_icmp_ge (tgt := 35) hx hb ⟨by decide, by decide⟩ ⟨by decide, by decide⟩ dX5_moves_4 (by decide) (fun c4 => ?_) (fun c4 => ?_)
  · exact absurd c4 (by decide)
  · refine lv_aload_n hx hb dX5_moves_7 rfl (lv_at hl 1 rfl) ?_
    refine va_get (D := G) (fs := [.int (ii st), .int (ii rp), .int (ii fr), .int (ii to)]) (ci := 8) (v := .int (ii st)) (C := RX9) (T := TX9) (N := 4) hx hb hts in_X9 hown hK hP mi hM rfl 0 (by decide) (hts _ q861) (fun _ h9 => h9) rfl dX5_moves_8 ?_
    refine lv_iload_n hx hb dX5_moves_11 rfl (lv_at hl 0 rfl) ?_
    refine lv_ishr hx hb dX5_moves_12 ?_
    refine li_topx (z := st) (ii_shr0 (by omega) (by omega)) ?_
    refine li_iconst hx hb dX5_moves_13 ?_
    refine lv_iand hx hb dX5_moves_14 ?_
    refine li_topx (z := st % 2) (ii_and1 (by omega) (by omega)) ?_
    refine li_iconst hx hb dX5_moves_15 ?_
    refine li_icmp_ne (tgt := 29) hx hb ⟨by omega, by omega⟩ ⟨by decide, by decide⟩ dX5_moves_16 (by decide) (fun c16 => ?_) (fun c16 => ?_)
    · refine li_iinc (a := 0) (lv' := [(2, .int (ii 1)), (0, .ref md), (1, .ref (sd 0))]) hx hb dX5_moves_29 hl (k := 0) rfl (by decide) rfl (fun ls hl => ?_)
      refine lv_goto (tgt := 2) hx hb dX5_moves_32 (by decide) ?_
      refine lv_iload_n hx hb dX5_moves_2 rfl (lv_at hl 0 rfl) ?_
      refine li_iconst hx hb dX5_moves_3 ?_
      refine li_icmp_ge (tgt := 35) hx hb ⟨by decide, by decide⟩ ⟨by decide, by decide⟩ dX5_moves_4 (by decide) (fun c4 => ?_) (fun c4 => ?_)
      · exact absurd c4 (by decide)
      · refine lv_aload_n hx hb dX5_moves_7 rfl (lv_at hl 1 rfl) ?_
        refine va_get (D := G) (fs := [.int (ii st), .int (ii rp), .int (ii fr), .int (ii to)]) (ci := 8) (v := .int (ii st)) (C := RX9) (T := TX9) (N := 4) hx hb hts in_X9 hown hK hP mi hM rfl 0 (by decide) (hts _ q861) (fun _ h9 => h9) rfl dX5_moves_8 ?_
        refine lv_iload_n hx hb dX5_moves_11 rfl (lv_at hl 0 rfl) ?_
        refine lv_ishr hx hb dX5_moves_12 ?_
        refine li_topx (z := st / 2) (ii_shr1 (by omega) (by omega)) ?_
        refine li_iconst hx hb dX5_moves_13 ?_
        refine lv_iand hx hb dX5_moves_14 ?_
        refine li_topx (z := (st / 2) % 2) (ii_and1 (by omega) (by omega)) ?_
        refine li_iconst hx hb dX5_moves_15 ?_
        refine li_icmp_ne (tgt := 29) hx hb ⟨by omega, by omega⟩ ⟨by decide, by decide⟩ dX5_moves_16 (by decide) (fun c16 => ?_) (fun c16 => ?_)
        · refine li_iinc (a := 1) (lv' := [(2, .int (ii 2)), (0, .ref md), (1, .ref (sd 0))]) hx hb dX5_moves_29 hl (k := 0) rfl (by decide) rfl (fun ls hl => ?_)
          refine lv_goto (tgt := 2) hx hb dX5_moves_32 (by decide) ?_
          refine lv_iload_n hx hb dX5_moves_2 rfl (lv_at hl 0 rfl) ?_
          refine li_iconst hx hb dX5_moves_3 ?_
          refine li_icmp_ge (tgt := 35) hx hb ⟨by decide, by decide⟩ ⟨by decide, by decide⟩ dX5_moves_4 (by decide) (fun c4 => ?_) (fun c4 => ?_)
          · exact absurd c4 (by decide)
          · refine lv_aload_n hx hb dX5_moves_7 rfl (lv_at hl 1 rfl) ?_
            refine va_get (D := G) (fs := [.int (ii st), .int (ii rp), .int (ii fr), .int (ii to)]) (ci := 8) (v := .int (ii st)) (C := RX9) (T := TX9) (N := 4) hx hb hts in_X9 hown hK hP mi hM rfl 0 (by decide) (hts _ q861) (fun _ h9 => h9) rfl dX5_moves_8 ?_
            refine lv_iload_n hx hb dX5_moves_11 rfl (lv_at hl 0 rfl) ?_
            refine lv_ishr hx hb dX5_moves_12 ?_
            refine li_topx (z := st / 4) (ii_shr2 (by omega) (by omega)) ?_
            refine li_iconst hx hb dX5_moves_13 ?_
            refine lv_iand hx hb dX5_moves_14 ?_
            refine li_topx (z := (st / 4) % 2) (ii_and1 (by omega) (by omega)) ?_
            refine li_iconst hx hb dX5_moves_15 ?_
            refine li_icmp_ne (tgt := 29) hx hb ⟨by omega, by omega⟩ ⟨by decide, by decide⟩ dX5_moves_16 (by decide) (fun c16 => ?_) (fun c16 => ?_)
            · refine li_iinc (a := 2) (lv' := [(2, .int (ii 3)), (0, .ref md), (1, .ref (sd 0))]) hx hb dX5_moves_29 hl (k := 0) rfl (by decide) rfl (fun ls hl => ?_)
              refine lv_goto (tgt := 2) hx hb dX5_moves_32 (by decide) ?_
              refine lv_iload_n hx hb dX5_moves_2 rfl (lv_at hl 0 rfl) ?_
              refine li_iconst hx hb dX5_moves_3 ?_
              refine li_icmp_ge (tgt := 35) hx hb ⟨by decide, by decide⟩ ⟨by decide, by decide⟩ dX5_moves_4 (by decide) (fun c4 => ?_) (fun c4 => ?_)
              · exact eMv hQ hx hb hr hlk hP hD hS (Nat.le_of_ble_eq_true rfl) (Nat.le_of_ble_eq_true rfl) dX5_moves_35 (⟨rfl, by have e : (w) = mvw st to w := (by funext i; simp only [mvw, ug]; omega); rw [← e]; exact (set_same hSp.2.1).symm⟩)
              · exact absurd c4 (by decide)
            · refine lv_aload_n hx hb dX5_moves_19 rfl (lv_at hl 2 rfl) ?_
              refine va_get (D := G) (fs := [.ref (sd 1), .ref (sd 2)]) (ci := 2) (v := .ref (sd 1)) (C := RX3) (T := TX3) (N := 2) hx hb hts in_X3 hown hK hP (si 0) hSp.1 rfl 0 (by decide) (hts _ q655) (fun _ h9 => h9) rfl dX5_moves_20 ?_
              refine lv_iload_n hx hb dX5_moves_23 rfl (lv_at hl 0 rfl) ?_
              refine lv_aload_n hx hb dX5_moves_24 rfl (lv_at hl 1 rfl) ?_
              refine va_get (D := G) (fs := [.int (ii st), .int (ii rp), .int (ii fr), .int (ii to)]) (ci := 8) (v := .int (ii to)) (C := RX9) (T := TX9) (N := 4) hx hb hts in_X9 hown hK hP mi hM rfl 3 (by decide) (hts _ q900) (fun _ h9 => h9) rfl dX5_moves_25 ?_
              refine li_iast (g := w) (W2 := (ws.set (si 1) (sd 1, .inl (ty 0, 3, .inl (fa (ug w 2 to)))))) hx hb hK hP hD hS (si 1) 0 hSp.2.1 rfl (by decide) (by decide) (by decide) rfl dX5_moves_28 (fun H locs hP hD hS => ?_)
              obtain ⟨ws1_, hws1_⟩ : ∃ z, z = (ws.set (si 1) (sd 1, .inl (ty 0, 3, .inl (fa (ug w 2 to))))) := ⟨_, rfl⟩
              replace hP : va_P G gcl ws1_ H := by rw [hws1_]; exact hP
              replace hD : va_D A ws1_ := by rw [hws1_]; exact hD
              have h1_0 : ws1_[(si 0)]? = some (sd 0, .inr (2, [.ref (sd 1), .ref (sd 2)])) := by rw [hws1_]; exact gs_n n_si1_si0 hSp.1
              have h1_1 : ws1_[(si 1)]? = some (sd 1, .inl (ty 0, 3, .inl (fa (ug w 2 to)))) := by rw [hws1_]; exact gs_s hSp.2.1
              have h1_2 : ws1_[(si 2)]? = some (sd 2, .inl (ty 0, 2, .inl (fa q))) := by rw [hws1_]; exact gs_n n_si1_si2 hSp.2.2
              have h1_3 : ws1_[mi]? = some (md, .inr (8, [.int (ii st), .int (ii rp), .int (ii fr), .int (ii to)])) := by rw [hws1_]; exact gs_n n_si1_mi hM
              refine li_iinc (a := 2) (lv' := [(2, .int (ii 3)), (0, .ref md), (1, .ref (sd 0))]) hx hb dX5_moves_29 hl (k := 0) rfl (by decide) rfl (fun ls hl => ?_)
              refine lv_goto (tgt := 2) hx hb dX5_moves_32 (by decide) ?_
              refine lv_iload_n hx hb dX5_moves_2 rfl (lv_at hl 0 rfl) ?_
              refine li_iconst hx hb dX5_moves_3 ?_
              refine li_icmp_ge (tgt := 35) hx hb ⟨by decide, by decide⟩ ⟨by decide, by decide⟩ dX5_moves_4 (by decide) (fun c4 => ?_) (fun c4 => ?_)
              · exact eMv hQ hx hb hr hlk hP hD hS (Nat.le_of_ble_eq_true rfl) (Nat.le_of_ble_eq_true rfl) dX5_moves_35 (⟨rfl, by have e : (ug w 2 to) = mvw st to w := (by funext i; simp only [mvw, ug]; omega); rw [hws1_]; (try simp only [List.set_set]); rw [e]⟩)
              · exact absurd c4 (by decide)
        · refine lv_aload_n hx hb dX5_moves_19 rfl (lv_at hl 2 rfl) ?_
          refine va_get (D := G) (fs := [.ref (sd 1), .ref (sd 2)]) (ci := 2) (v := .ref (sd 1)) (C := RX3) (T := TX3) (N := 2) hx hb hts in_X3 hown hK hP (si 0) hSp.1 rfl 0 (by decide) (hts _ q655) (fun _ h9 => h9) rfl dX5_moves_20 ?_
          refine lv_iload_n hx hb dX5_moves_23 rfl (lv_at hl 0 rfl) ?_
          refine lv_aload_n hx hb dX5_moves_24 rfl (lv_at hl 1 rfl) ?_
          refine va_get (D := G) (fs := [.int (ii st), .int (ii rp), .int (ii fr), .int (ii to)]) (ci := 8) (v := .int (ii to)) (C := RX9) (T := TX9) (N := 4) hx hb hts in_X9 hown hK hP mi hM rfl 3 (by decide) (hts _ q900) (fun _ h9 => h9) rfl dX5_moves_25 ?_
          refine li_iast (g := w) (W2 := (ws.set (si 1) (sd 1, .inl (ty 0, 3, .inl (fa (ug w 1 to)))))) hx hb hK hP hD hS (si 1) 0 hSp.2.1 rfl (by decide) (by decide) (by decide) rfl dX5_moves_28 (fun H locs hP hD hS => ?_)
          obtain ⟨ws1_, hws1_⟩ : ∃ z, z = (ws.set (si 1) (sd 1, .inl (ty 0, 3, .inl (fa (ug w 1 to))))) := ⟨_, rfl⟩
          replace hP : va_P G gcl ws1_ H := by rw [hws1_]; exact hP
          replace hD : va_D A ws1_ := by rw [hws1_]; exact hD
          have h1_0 : ws1_[(si 0)]? = some (sd 0, .inr (2, [.ref (sd 1), .ref (sd 2)])) := by rw [hws1_]; exact gs_n n_si1_si0 hSp.1
          have h1_1 : ws1_[(si 1)]? = some (sd 1, .inl (ty 0, 3, .inl (fa (ug w 1 to)))) := by rw [hws1_]; exact gs_s hSp.2.1
          have h1_2 : ws1_[(si 2)]? = some (sd 2, .inl (ty 0, 2, .inl (fa q))) := by rw [hws1_]; exact gs_n n_si1_si2 hSp.2.2
          have h1_3 : ws1_[mi]? = some (md, .inr (8, [.int (ii st), .int (ii rp), .int (ii fr), .int (ii to)])) := by rw [hws1_]; exact gs_n n_si1_mi hM
          refine li_iinc (a := 1) (lv' := [(2, .int (ii 2)), (0, .ref md), (1, .ref (sd 0))]) hx hb dX5_moves_29 hl (k := 0) rfl (by decide) rfl (fun ls hl => ?_)
          refine lv_goto (tgt := 2) hx hb dX5_moves_32 (by decide) ?_
          refine lv_iload_n hx hb dX5_moves_2 rfl (lv_at hl 0 rfl) ?_
          refine li_iconst hx hb dX5_moves_3 ?_
          refine li_icmp_ge (tgt := 35) hx hb ⟨by decide, by decide⟩ ⟨by decide, by decide⟩ dX5_moves_4 (by decide) (fun c4 => ?_) (fun c4 => ?_)
          · exact absurd c4 (by decide)
          · refine lv_aload_n hx hb dX5_moves_7 rfl (lv_at hl 1 rfl) ?_
            refine va_get (D := G) (fs := [.int (ii st), .int (ii rp), .int (ii fr), .int (ii to)]) (ci := 8) (v := .int (ii st)) (C := RX9) (T := TX9) (N := 4) hx hb hts in_X9 hown hK hP mi h1_3 rfl 0 (by decide) (hts _ q861) (fun _ h9 => h9) rfl dX5_moves_8 ?_
            refine lv_iload_n hx hb dX5_moves_11 rfl (lv_at hl 0 rfl) ?_
            refine lv_ishr hx hb dX5_moves_12 ?_
            refine li_topx (z := st / 4) (ii_shr2 (by omega) (by omega)) ?_
            refine li_iconst hx hb dX5_moves_13 ?_
            refine lv_iand hx hb dX5_moves_14 ?_
            refine li_topx (z := (st / 4) % 2) (ii_and1 (by omega) (by omega)) ?_
            refine li_iconst hx hb dX5_moves_15 ?_
            refine li_icmp_ne (tgt := 29) hx hb ⟨by omega, by omega⟩ ⟨by decide, by decide⟩ dX5_moves_16 (by decide) (fun c16 => ?_) (fun c16 => ?_)
            · refine li_iinc (a := 2) (lv' := [(2, .int (ii 3)), (0, .ref md), (1, .ref (sd 0))]) hx hb dX5_moves_29 hl (k := 0) rfl (by decide) rfl (fun ls hl => ?_)
              refine lv_goto (tgt := 2) hx hb dX5_moves_32 (by decide) ?_
              refine lv_iload_n hx hb dX5_moves_2 rfl (lv_at hl 0 rfl) ?_
              refine li_iconst hx hb dX5_moves_3 ?_
              refine li_icmp_ge (tgt := 35) hx hb ⟨by decide, by decide⟩ ⟨by decide, by decide⟩ dX5_moves_4 (by decide) (fun c4 => ?_) (fun c4 => ?_)
              · exact eMv hQ hx hb hr hlk hP hD hS (Nat.le_of_ble_eq_true rfl) (Nat.le_of_ble_eq_true rfl) dX5_moves_35 (⟨rfl, by have e : (ug w 1 to) = mvw st to w := (by funext i; simp only [mvw, ug]; omega); rw [hws1_]; (try simp only [List.set_set]); rw [e]⟩)
              · exact absurd c4 (by decide)
            · refine lv_aload_n hx hb dX5_moves_19 rfl (lv_at hl 2 rfl) ?_
              refine va_get (D := G) (fs := [.ref (sd 1), .ref (sd 2)]) (ci := 2) (v := .ref (sd 1)) (C := RX3) (T := TX3) (N := 2) hx hb hts in_X3 hown hK hP (si 0) h1_0 rfl 0 (by decide) (hts _ q655) (fun _ h9 => h9) rfl dX5_moves_20 ?_
              refine lv_iload_n hx hb dX5_moves_23 rfl (lv_at hl 0 rfl) ?_
              refine lv_aload_n hx hb dX5_moves_24 rfl (lv_at hl 1 rfl) ?_
              refine va_get (D := G) (fs := [.int (ii st), .int (ii rp), .int (ii fr), .int (ii to)]) (ci := 8) (v := .int (ii to)) (C := RX9) (T := TX9) (N := 4) hx hb hts in_X9 hown hK hP mi h1_3 rfl 3 (by decide) (hts _ q900) (fun _ h9 => h9) rfl dX5_moves_25 ?_
              refine li_iast (g := ug w 1 to) (W2 := (ws1_.set (si 1) (sd 1, .inl (ty 0, 3, .inl (fa (ug (ug w 1 to) 2 to)))))) hx hb hK hP hD hS (si 1) 0 h1_1 rfl (by decide) (by decide) (by decide) rfl dX5_moves_28 (fun H locs hP hD hS => ?_)
              obtain ⟨ws2_, hws2_⟩ : ∃ z, z = (ws1_.set (si 1) (sd 1, .inl (ty 0, 3, .inl (fa (ug (ug w 1 to) 2 to))))) := ⟨_, rfl⟩
              replace hP : va_P G gcl ws2_ H := by rw [hws2_]; exact hP
              replace hD : va_D A ws2_ := by rw [hws2_]; exact hD
              have h2_0 : ws2_[(si 0)]? = some (sd 0, .inr (2, [.ref (sd 1), .ref (sd 2)])) := by rw [hws2_]; exact gs_n n_si1_si0 h1_0
              have h2_1 : ws2_[(si 1)]? = some (sd 1, .inl (ty 0, 3, .inl (fa (ug (ug w 1 to) 2 to)))) := by rw [hws2_]; exact gs_s h1_1
              have h2_2 : ws2_[(si 2)]? = some (sd 2, .inl (ty 0, 2, .inl (fa q))) := by rw [hws2_]; exact gs_n n_si1_si2 h1_2
              have h2_3 : ws2_[mi]? = some (md, .inr (8, [.int (ii st), .int (ii rp), .int (ii fr), .int (ii to)])) := by rw [hws2_]; exact gs_n n_si1_mi h1_3
              refine li_iinc (a := 2) (lv' := [(2, .int (ii 3)), (0, .ref md), (1, .ref (sd 0))]) hx hb dX5_moves_29 hl (k := 0) rfl (by decide) rfl (fun ls hl => ?_)
              refine lv_goto (tgt := 2) hx hb dX5_moves_32 (by decide) ?_
              refine lv_iload_n hx hb dX5_moves_2 rfl (lv_at hl 0 rfl) ?_
              refine li_iconst hx hb dX5_moves_3 ?_
              refine li_icmp_ge (tgt := 35) hx hb ⟨by decide, by decide⟩ ⟨by decide, by decide⟩ dX5_moves_4 (by decide) (fun c4 => ?_) (fun c4 => ?_)
              · exact eMv hQ hx hb hr hlk hP hD hS (Nat.le_of_ble_eq_true rfl) (Nat.le_of_ble_eq_true rfl) dX5_moves_35 (⟨rfl, by have e : (ug (ug w 1 to) 2 to) = mvw st to w := (by funext i; simp only [mvw, ug]; omega); rw [hws2_, hws1_]; (try simp only [List.set_set]); rw [e]⟩)
              · exact absurd c4 (by decide)
    · refine lv_aload_n hx hb dX5_moves_19 rfl (lv_at hl 2 rfl) ?_
      refine va_get (D := G) (fs := [.ref (sd 1), .ref (sd 2)]) (ci := 2) (v := .ref (sd 1)) (C := RX3) (T := TX3) (N := 2) hx hb hts in_X3 hown hK hP (si 0) hSp.1 rfl 0 (by decide) (hts _ q655) (fun _ h9 => h9) rfl dX5_moves_20 ?_
      refine lv_iload_n hx hb dX5_moves_23 rfl (lv_at hl 0 rfl) ?_
      refine lv_aload_n hx hb dX5_moves_24 rfl (lv_at hl 1 rfl) ?_
      refine va_get (D := G) (fs := [.int (ii st), .int (ii rp), .int (ii fr), .int (ii to)]) (ci := 8) (v := .int (ii to)) (C := RX9) (T := TX9) (N := 4) hx hb hts in_X9 hown hK hP mi hM rfl 3 (by decide) (hts _ q900) (fun _ h9 => h9) rfl dX5_moves_25 ?_
      refine li_iast (g := w) (W2 := (ws.set (si 1) (sd 1, .inl (ty 0, 3, .inl (fa (ug w 0 to)))))) hx hb hK hP hD hS (si 1) 0 hSp.2.1 rfl (by decide) (by decide) (by decide) rfl dX5_moves_28 (fun H locs hP hD hS => ?_)
      obtain ⟨ws1_, hws1_⟩ : ∃ z, z = (ws.set (si 1) (sd 1, .inl (ty 0, 3, .inl (fa (ug w 0 to))))) := ⟨_, rfl⟩
      replace hP : va_P G gcl ws1_ H := by rw [hws1_]; exact hP
      replace hD : va_D A ws1_ := by rw [hws1_]; exact hD
      have h1_0 : ws1_[(si 0)]? = some (sd 0, .inr (2, [.ref (sd 1), .ref (sd 2)])) := by rw [hws1_]; exact gs_n n_si1_si0 hSp.1
      have h1_1 : ws1_[(si 1)]? = some (sd 1, .inl (ty 0, 3, .inl (fa (ug w 0 to)))) := by rw [hws1_]; exact gs_s hSp.2.1
      have h1_2 : ws1_[(si 2)]? = some (sd 2, .inl (ty 0, 2, .inl (fa q))) := by rw [hws1_]; exact gs_n n_si1_si2 hSp.2.2
      have h1_3 : ws1_[mi]? = some (md, .inr (8, [.int (ii st), .int (ii rp), .int (ii fr), .int (ii to)])) := by rw [hws1_]; exact gs_n n_si1_mi hM
      refine li_iinc (a := 0) (lv' := [(2, .int (ii 1)), (0, .ref md), (1, .ref (sd 0))]) hx hb dX5_moves_29 hl (k := 0) rfl (by decide) rfl (fun ls hl => ?_)
      refine lv_goto (tgt := 2) hx hb dX5_moves_32 (by decide) ?_
      refine lv_iload_n hx hb dX5_moves_2 rfl (lv_at hl 0 rfl) ?_
      refine li_iconst hx hb dX5_moves_3 ?_
      refine li_icmp_ge (tgt := 35) hx hb ⟨by decide, by decide⟩ ⟨by decide, by decide⟩ dX5_moves_4 (by decide) (fun c4 => ?_) (fun c4 => ?_)
      · exact absurd c4 (by decide)
      · refine lv_aload_n hx hb dX5_moves_7 rfl (lv_at hl 1 rfl) ?_
        refine va_get (D := G) (fs := [.int (ii st), .int (ii rp), .int (ii fr), .int (ii to)]) (ci := 8) (v := .int (ii st)) (C := RX9) (T := TX9) (N := 4) hx hb hts in_X9 hown hK hP mi h1_3 rfl 0 (by decide) (hts _ q861) (fun _ h9 => h9) rfl dX5_moves_8 ?_
        refine lv_iload_n hx hb dX5_moves_11 rfl (lv_at hl 0 rfl) ?_
        refine lv_ishr hx hb dX5_moves_12 ?_
        refine li_topx (z := st / 2) (ii_shr1 (by omega) (by omega)) ?_
        refine li_iconst hx hb dX5_moves_13 ?_
        refine lv_iand hx hb dX5_moves_14 ?_
        refine li_topx (z := (st / 2) % 2) (ii_and1 (by omega) (by omega)) ?_
        refine li_iconst hx hb dX5_moves_15 ?_
        refine li_icmp_ne (tgt := 29) hx hb ⟨by omega, by omega⟩ ⟨by decide, by decide⟩ dX5_moves_16 (by decide) (fun c16 => ?_) (fun c16 => ?_)
        · refine li_iinc (a := 1) (lv' := [(2, .int (ii 2)), (0, .ref md), (1, .ref (sd 0))]) hx hb dX5_moves_29 hl (k := 0) rfl (by decide) rfl (fun ls hl => ?_)
          refine lv_goto (tgt := 2) hx hb dX5_moves_32 (by decide) ?_
          refine lv_iload_n hx hb dX5_moves_2 rfl (lv_at hl 0 rfl) ?_
          refine li_iconst hx hb dX5_moves_3 ?_
          refine li_icmp_ge (tgt := 35) hx hb ⟨by decide, by decide⟩ ⟨by decide, by decide⟩ dX5_moves_4 (by decide) (fun c4 => ?_) (fun c4 => ?_)
          · exact absurd c4 (by decide)
          · refine lv_aload_n hx hb dX5_moves_7 rfl (lv_at hl 1 rfl) ?_
            refine va_get (D := G) (fs := [.int (ii st), .int (ii rp), .int (ii fr), .int (ii to)]) (ci := 8) (v := .int (ii st)) (C := RX9) (T := TX9) (N := 4) hx hb hts in_X9 hown hK hP mi h1_3 rfl 0 (by decide) (hts _ q861) (fun _ h9 => h9) rfl dX5_moves_8 ?_
            refine lv_iload_n hx hb dX5_moves_11 rfl (lv_at hl 0 rfl) ?_
            refine lv_ishr hx hb dX5_moves_12 ?_
            refine li_topx (z := st / 4) (ii_shr2 (by omega) (by omega)) ?_
            refine li_iconst hx hb dX5_moves_13 ?_
            refine lv_iand hx hb dX5_moves_14 ?_
            refine li_topx (z := (st / 4) % 2) (ii_and1 (by omega) (by omega)) ?_
            refine li_iconst hx hb dX5_moves_15 ?_
            refine li_icmp_ne (tgt := 29) hx hb ⟨by omega, by omega⟩ ⟨by decide, by decide⟩ dX5_moves_16 (by decide) (fun c16 => ?_) (fun c16 => ?_)
            · refine li_iinc (a := 2) (lv' := [(2, .int (ii 3)), (0, .ref md), (1, .ref (sd 0))]) hx hb dX5_moves_29 hl (k := 0) rfl (by decide) rfl (fun ls hl => ?_)
              refine lv_goto (tgt := 2) hx hb dX5_moves_32 (by decide) ?_
              refine lv_iload_n hx hb dX5_moves_2 rfl (lv_at hl 0 rfl) ?_
              refine li_iconst hx hb dX5_moves_3 ?_
              refine li_icmp_ge (tgt := 35) hx hb ⟨by decide, by decide⟩ ⟨by decide, by decide⟩ dX5_moves_4 (by decide) (fun c4 => ?_) (fun c4 => ?_)
              · exact eMv hQ hx hb hr hlk hP hD hS (Nat.le_of_ble_eq_true rfl) (Nat.le_of_ble_eq_true rfl) dX5_moves_35 (⟨rfl, by have e : (ug w 0 to) = mvw st to w := (by funext i; simp only [mvw, ug]; omega); rw [hws1_]; (try simp only [List.set_set]); rw [e]⟩)
              · exact absurd c4 (by decide)
            · refine lv_aload_n hx hb dX5_moves_19 rfl (lv_at hl 2 rfl) ?_
              refine va_get (D := G) (fs := [.ref (sd 1), .ref (sd 2)]) (ci := 2) (v := .ref (sd 1)) (C := RX3) (T := TX3) (N := 2) hx hb hts in_X3 hown hK hP (si 0) h1_0 rfl 0 (by decide) (hts _ q655) (fun _ h9 => h9) rfl dX5_moves_20 ?_
              refine lv_iload_n hx hb dX5_moves_23 rfl (lv_at hl 0 rfl) ?_
              refine lv_aload_n hx hb dX5_moves_24 rfl (lv_at hl 1 rfl) ?_
              refine va_get (D := G) (fs := [.int (ii st), .int (ii rp), .int (ii fr), .int (ii to)]) (ci := 8) (v := .int (ii to)) (C := RX9) (T := TX9) (N := 4) hx hb hts in_X9 hown hK hP mi h1_3 rfl 3 (by decide) (hts _ q900) (fun _ h9 => h9) rfl dX5_moves_25 ?_
              refine li_iast (g := ug w 0 to) (W2 := (ws1_.set (si 1) (sd 1, .inl (ty 0, 3, .inl (fa (ug (ug w 0 to) 2 to)))))) hx hb hK hP hD hS (si 1) 0 h1_1 rfl (by decide) (by decide) (by decide) rfl dX5_moves_28 (fun H locs hP hD hS => ?_)
              obtain ⟨ws2_, hws2_⟩ : ∃ z, z = (ws1_.set (si 1) (sd 1, .inl (ty 0, 3, .inl (fa (ug (ug w 0 to) 2 to))))) := ⟨_, rfl⟩
              replace hP : va_P G gcl ws2_ H := by rw [hws2_]; exact hP
              replace hD : va_D A ws2_ := by rw [hws2_]; exact hD
              have h2_0 : ws2_[(si 0)]? = some (sd 0, .inr (2, [.ref (sd 1), .ref (sd 2)])) := by rw [hws2_]; exact gs_n n_si1_si0 h1_0
              have h2_1 : ws2_[(si 1)]? = some (sd 1, .inl (ty 0, 3, .inl (fa (ug (ug w 0 to) 2 to)))) := by rw [hws2_]; exact gs_s h1_1
              have h2_2 : ws2_[(si 2)]? = some (sd 2, .inl (ty 0, 2, .inl (fa q))) := by rw [hws2_]; exact gs_n n_si1_si2 h1_2
              have h2_3 : ws2_[mi]? = some (md, .inr (8, [.int (ii st), .int (ii rp), .int (ii fr), .int (ii to)])) := by rw [hws2_]; exact gs_n n_si1_mi h1_3
              refine li_iinc (a := 2) (lv' := [(2, .int (ii 3)), (0, .ref md), (1, .ref (sd 0))]) hx hb dX5_moves_29 hl (k := 0) rfl (by decide) rfl (fun ls hl => ?_)
              refine lv_goto (tgt := 2) hx hb dX5_moves_32 (by decide) ?_
              refine lv_iload_n hx hb dX5_moves_2 rfl (lv_at hl 0 rfl) ?_
              refine li_iconst hx hb dX5_moves_3 ?_
              refine li_icmp_ge (tgt := 35) hx hb ⟨by decide, by decide⟩ ⟨by decide, by decide⟩ dX5_moves_4 (by decide) (fun c4 => ?_) (fun c4 => ?_)
              · exact eMv hQ hx hb hr hlk hP hD hS (Nat.le_of_ble_eq_true rfl) (Nat.le_of_ble_eq_true rfl) dX5_moves_35 (⟨rfl, by have e : (ug (ug w 0 to) 2 to) = mvw st to w := (by funext i; simp only [mvw, ug]; omega); rw [hws2_, hws1_]; (try simp only [List.set_set]); rw [e]⟩)
              · exact absurd c4 (by decide)
        · refine lv_aload_n hx hb dX5_moves_19 rfl (lv_at hl 2 rfl) ?_
          refine va_get (D := G) (fs := [.ref (sd 1), .ref (sd 2)]) (ci := 2) (v := .ref (sd 1)) (C := RX3) (T := TX3) (N := 2) hx hb hts in_X3 hown hK hP (si 0) h1_0 rfl 0 (by decide) (hts _ q655) (fun _ h9 => h9) rfl dX5_moves_20 ?_
          refine lv_iload_n hx hb dX5_moves_23 rfl (lv_at hl 0 rfl) ?_
          refine lv_aload_n hx hb dX5_moves_24 rfl (lv_at hl 1 rfl) ?_
          refine va_get (D := G) (fs := [.int (ii st), .int (ii rp), .int (ii fr), .int (ii to)]) (ci := 8) (v := .int (ii to)) (C := RX9) (T := TX9) (N := 4) hx hb hts in_X9 hown hK hP mi h1_3 rfl 3 (by decide) (hts _ q900) (fun _ h9 => h9) rfl dX5_moves_25 ?_
          refine li_iast (g := ug w 0 to) (W2 := (ws1_.set (si 1) (sd 1, .inl (ty 0, 3, .inl (fa (ug (ug w 0 to) 1 to)))))) hx hb hK hP hD hS (si 1) 0 h1_1 rfl (by decide) (by decide) (by decide) rfl dX5_moves_28 (fun H locs hP hD hS => ?_)
          obtain ⟨ws2_, hws2_⟩ : ∃ z, z = (ws1_.set (si 1) (sd 1, .inl (ty 0, 3, .inl (fa (ug (ug w 0 to) 1 to))))) := ⟨_, rfl⟩
          replace hP : va_P G gcl ws2_ H := by rw [hws2_]; exact hP
          replace hD : va_D A ws2_ := by rw [hws2_]; exact hD
          have h2_0 : ws2_[(si 0)]? = some (sd 0, .inr (2, [.ref (sd 1), .ref (sd 2)])) := by rw [hws2_]; exact gs_n n_si1_si0 h1_0
          have h2_1 : ws2_[(si 1)]? = some (sd 1, .inl (ty 0, 3, .inl (fa (ug (ug w 0 to) 1 to)))) := by rw [hws2_]; exact gs_s h1_1
          have h2_2 : ws2_[(si 2)]? = some (sd 2, .inl (ty 0, 2, .inl (fa q))) := by rw [hws2_]; exact gs_n n_si1_si2 h1_2
          have h2_3 : ws2_[mi]? = some (md, .inr (8, [.int (ii st), .int (ii rp), .int (ii fr), .int (ii to)])) := by rw [hws2_]; exact gs_n n_si1_mi h1_3
          refine li_iinc (a := 1) (lv' := [(2, .int (ii 2)), (0, .ref md), (1, .ref (sd 0))]) hx hb dX5_moves_29 hl (k := 0) rfl (by decide) rfl (fun ls hl => ?_)
          refine lv_goto (tgt := 2) hx hb dX5_moves_32 (by decide) ?_
          refine lv_iload_n hx hb dX5_moves_2 rfl (lv_at hl 0 rfl) ?_
          refine li_iconst hx hb dX5_moves_3 ?_
          refine li_icmp_ge (tgt := 35) hx hb ⟨by decide, by decide⟩ ⟨by decide, by decide⟩ dX5_moves_4 (by decide) (fun c4 => ?_) (fun c4 => ?_)
          · exact absurd c4 (by decide)
          · refine lv_aload_n hx hb dX5_moves_7 rfl (lv_at hl 1 rfl) ?_
            refine va_get (D := G) (fs := [.int (ii st), .int (ii rp), .int (ii fr), .int (ii to)]) (ci := 8) (v := .int (ii st)) (C := RX9) (T := TX9) (N := 4) hx hb hts in_X9 hown hK hP mi h2_3 rfl 0 (by decide) (hts _ q861) (fun _ h9 => h9) rfl dX5_moves_8 ?_
            refine lv_iload_n hx hb dX5_moves_11 rfl (lv_at hl 0 rfl) ?_
            refine lv_ishr hx hb dX5_moves_12 ?_
            refine li_topx (z := st / 4) (ii_shr2 (by omega) (by omega)) ?_
            refine li_iconst hx hb dX5_moves_13 ?_
            refine lv_iand hx hb dX5_moves_14 ?_
            refine li_topx (z := (st / 4) % 2) (ii_and1 (by omega) (by omega)) ?_
            refine li_iconst hx hb dX5_moves_15 ?_
            refine li_icmp_ne (tgt := 29) hx hb ⟨by omega, by omega⟩ ⟨by decide, by decide⟩ dX5_moves_16 (by decide) (fun c16 => ?_) (fun c16 => ?_)
            · refine li_iinc (a := 2) (lv' := [(2, .int (ii 3)), (0, .ref md), (1, .ref (sd 0))]) hx hb dX5_moves_29 hl (k := 0) rfl (by decide) rfl (fun ls hl => ?_)
              refine lv_goto (tgt := 2) hx hb dX5_moves_32 (by decide) ?_
              refine lv_iload_n hx hb dX5_moves_2 rfl (lv_at hl 0 rfl) ?_
              refine li_iconst hx hb dX5_moves_3 ?_
              refine li_icmp_ge (tgt := 35) hx hb ⟨by decide, by decide⟩ ⟨by decide, by decide⟩ dX5_moves_4 (by decide) (fun c4 => ?_) (fun c4 => ?_)
              · exact eMv hQ hx hb hr hlk hP hD hS (Nat.le_of_ble_eq_true rfl) (Nat.le_of_ble_eq_true rfl) dX5_moves_35 (⟨rfl, by have e : (ug (ug w 0 to) 1 to) = mvw st to w := (by funext i; simp only [mvw, ug]; omega); rw [hws2_, hws1_]; (try simp only [List.set_set]); rw [e]⟩)
              · exact absurd c4 (by decide)
            · refine lv_aload_n hx hb dX5_moves_19 rfl (lv_at hl 2 rfl) ?_
              refine va_get (D := G) (fs := [.ref (sd 1), .ref (sd 2)]) (ci := 2) (v := .ref (sd 1)) (C := RX3) (T := TX3) (N := 2) hx hb hts in_X3 hown hK hP (si 0) h2_0 rfl 0 (by decide) (hts _ q655) (fun _ h9 => h9) rfl dX5_moves_20 ?_
              refine lv_iload_n hx hb dX5_moves_23 rfl (lv_at hl 0 rfl) ?_
              refine lv_aload_n hx hb dX5_moves_24 rfl (lv_at hl 1 rfl) ?_
              refine va_get (D := G) (fs := [.int (ii st), .int (ii rp), .int (ii fr), .int (ii to)]) (ci := 8) (v := .int (ii to)) (C := RX9) (T := TX9) (N := 4) hx hb hts in_X9 hown hK hP mi h2_3 rfl 3 (by decide) (hts _ q900) (fun _ h9 => h9) rfl dX5_moves_25 ?_
              refine li_iast (g := ug (ug w 0 to) 1 to) (W2 := (ws2_.set (si 1) (sd 1, .inl (ty 0, 3, .inl (fa (ug (ug (ug w 0 to) 1 to) 2 to)))))) hx hb hK hP hD hS (si 1) 0 h2_1 rfl (by decide) (by decide) (by decide) rfl dX5_moves_28 (fun H locs hP hD hS => ?_)
              obtain ⟨ws3_, hws3_⟩ : ∃ z, z = (ws2_.set (si 1) (sd 1, .inl (ty 0, 3, .inl (fa (ug (ug (ug w 0 to) 1 to) 2 to))))) := ⟨_, rfl⟩
              replace hP : va_P G gcl ws3_ H := by rw [hws3_]; exact hP
              replace hD : va_D A ws3_ := by rw [hws3_]; exact hD
              have h3_0 : ws3_[(si 0)]? = some (sd 0, .inr (2, [.ref (sd 1), .ref (sd 2)])) := by rw [hws3_]; exact gs_n n_si1_si0 h2_0
              have h3_1 : ws3_[(si 1)]? = some (sd 1, .inl (ty 0, 3, .inl (fa (ug (ug (ug w 0 to) 1 to) 2 to)))) := by rw [hws3_]; exact gs_s h2_1
              have h3_2 : ws3_[(si 2)]? = some (sd 2, .inl (ty 0, 2, .inl (fa q))) := by rw [hws3_]; exact gs_n n_si1_si2 h2_2
              have h3_3 : ws3_[mi]? = some (md, .inr (8, [.int (ii st), .int (ii rp), .int (ii fr), .int (ii to)])) := by rw [hws3_]; exact gs_n n_si1_mi h2_3
              refine li_iinc (a := 2) (lv' := [(2, .int (ii 3)), (0, .ref md), (1, .ref (sd 0))]) hx hb dX5_moves_29 hl (k := 0) rfl (by decide) rfl (fun ls hl => ?_)
              refine lv_goto (tgt := 2) hx hb dX5_moves_32 (by decide) ?_
              refine lv_iload_n hx hb dX5_moves_2 rfl (lv_at hl 0 rfl) ?_
              refine li_iconst hx hb dX5_moves_3 ?_
              refine li_icmp_ge (tgt := 35) hx hb ⟨by decide, by decide⟩ ⟨by decide, by decide⟩ dX5_moves_4 (by decide) (fun c4 => ?_) (fun c4 => ?_)
              · exact eMv hQ hx hb hr hlk hP hD hS (Nat.le_of_ble_eq_true rfl) (Nat.le_of_ble_eq_true rfl) dX5_moves_35 (⟨rfl, by have e : (ug (ug (ug w 0 to) 1 to) 2 to) = mvw st to w := (by funext i; simp only [mvw, ug]; omega); rw [hws3_, hws2_, hws1_]; (try simp only [List.set_set]); rw [e]⟩)
              · exact absurd c4 (by decide)
set_option maxHeartbeats 4000000 in
theorem m_does0_9 (l : Launch) (G : va_G) (ty : Nat → ClassId) (ws : va_W) (si sd : Nat → Nat) (w q : Int → Int) (mi md : Nat) (st rp fr to : Int)  (hSp : spotAt ty ws si sd w q) (hM : moveAt ws 8 mi md st rp fr to) (hm : 0 ≤ st ∧ st ≤ 7 ∧ 0 ≤ rp ∧ rp ≤ 1 ∧ 0 ≤ fr ∧ fr ≤ 4 ∧ 0 ≤ to ∧ to ≤ 4) (n_si1_si0 : (si 1) ≠ (si 0)) (n_si1_si2 : (si 1) ≠ (si 2)) (n_si1_mi : (si 1) ≠ mi) : cM l yX5_does (ws_ yX5_does cX5_does 2 none) (rm4 1 0 0 22) G ty (ws) [.ref md, .ref (sd 0)] 0 0 (fun r W' => r = none ∧ W' = ws.set (si 1) (sd 1, .inl (ty 0, 3, .inl (fa (mvw st to w))))) := by
  refine cM.of (by decide) (Nat.le_of_ble_eq_true rfl) ?_
  intro p e s m args below meth c A Q H locs hQ hx hb hr hml hown hlk hname hts hK hP hD hS hA hX ls hl
  have hl : lv_has ls 2 [(0, .ref md), (1, .ref (sd 0))] := hl
  refine lv_aload_n hx hb dX5_does_0 rfl (lv_at hl 0 rfl) ?_
  refine lv_aload_n hx hb dX5_does_1 rfl (lv_at hl 1 rfl) ?_
  refine kM (va_runU (x := yX5_moves) (As := [.ref (sd 0)]) (rest := []) ⟨hx, hb, hml, hown, hts⟩ ((m_moves_9 l G ty ws si sd w q mi md st rp fr to hSp hM hm n_si1_si0 n_si1_si2 n_si1_mi) H.size) (va_cwU (own := "DownRope$Move") (index := 57) (C := "DownRope$Let") (owner := "DownRope$Move") (x := yX5_moves) (y := yX5_moves) 1 hts (lw_app (lw_in _ [515, 518, 522, 516, 80] (by decide +kernel) (by decide +kernel)) (lw_meth q525)) rfl rfl rfl rfl (by decide +kernel) ⟨Nat.le_of_ble_eq_true rfl, Nat.le_of_ble_eq_true rfl⟩) (pvM (r := (RX9, TX9, 4)) hK hP hD hX mi hM rfl) rfl rfl hl.1 rfl (lv_room (Nat.le_of_ble_eq_true rfl)) dX5_does_2 ⟨Nat.le_of_ble_eq_true rfl, Nat.le_of_ble_eq_true rfl⟩) hD hS hA (fun v ws1 H locs hv hP hD hS => ?_)
  obtain ⟨rfl, rfl⟩ := hv
  obtain ⟨ws1_, hws1_⟩ : ∃ z, z = (ws.set (si 1) (sd 1, .inl (ty 0, 3, .inl (fa (mvw st to w))))) := ⟨_, rfl⟩
  replace hP : va_P G gcl ws1_ H := by rw [hws1_]; exact hP
  replace hD : va_D A ws1_ := by rw [hws1_]; exact hD
  have h1_0 : ws1_[(si 0)]? = some (sd 0, .inr (2, [.ref (sd 1), .ref (sd 2)])) := by rw [hws1_]; exact gs_n n_si1_si0 hSp.1
  have h1_1 : ws1_[(si 1)]? = some (sd 1, .inl (ty 0, 3, .inl (fa (mvw st to w)))) := by rw [hws1_]; exact gs_s hSp.2.1
  have h1_2 : ws1_[(si 2)]? = some (sd 2, .inl (ty 0, 2, .inl (fa q))) := by rw [hws1_]; exact gs_n n_si1_si2 hSp.2.2
  have h1_3 : ws1_[mi]? = some (md, .inr (8, [.int (ii st), .int (ii rp), .int (ii fr), .int (ii to)])) := by rw [hws1_]; exact gs_n n_si1_mi hM
  exact eMv hQ hx hb hr hlk hP hD hS (Nat.le_of_ble_eq_true rfl) (Nat.le_of_ble_eq_true rfl) dX5_does_5 (⟨rfl, by rw [hws1_]⟩)
set_option maxHeartbeats 4000000 in
theorem m_moves_10 (l : Launch) (G : va_G) (ty : Nat → ClassId) (ws : va_W) (si sd : Nat → Nat) (w q : Int → Int) (mi md : Nat) (st rp fr to : Int)  (hSp : spotAt ty ws si sd w q) (hM : moveAt ws 9 mi md st rp fr to) (hm : 0 ≤ st ∧ st ≤ 7 ∧ 0 ≤ rp ∧ rp ≤ 1 ∧ 0 ≤ fr ∧ fr ≤ 4 ∧ 0 ≤ to ∧ to ≤ 4) (n_si1_si0 : (si 1) ≠ (si 0)) (n_si1_si2 : (si 1) ≠ (si 2)) (n_si1_mi : (si 1) ≠ mi) : cM l yX5_moves (ws_ yX5_moves cX5_moves 3 none) (rm4 0 0 0 0) G ty (ws) [.ref md, .ref (sd 0)] 0 0 (fun r W' => r = none ∧ W' = ws.set (si 1) (sd 1, .inl (ty 0, 3, .inl (fa (mvw st to w))))) := by
  refine cM.of (by decide) (Nat.le_of_ble_eq_true rfl) ?_
  intro p e s m args below meth c A Q H locs hQ hx hb hr hml hown hlk hname hts hK hP hD hS hA hX ls hl
  have hl : lv_has ls 3 [(0, .ref md), (1, .ref (sd 0))] := hl
  obtain ⟨hm0, hm1, hm2, hm3, hm4, hm5, hm6, hm7⟩ := id hm
  refine li_iconst hx hb dX5_moves_0 ?_
  refine lv_istore_n (lv' := [(2, .int (ii 0)), (0, .ref md), (1, .ref (sd 0))]) hx hb dX5_moves_1 rfl hl (by decide) rfl (fun ls hl => ?_)
  refine lv_iload_n hx hb dX5_moves_2 rfl (lv_at hl 0 rfl) ?_
  refine li_iconst hx hb dX5_moves_3 ?_
  refine li_icmp_ge (tgt := 35) hx hb ⟨by decide, by decide⟩ ⟨by decide, by decide⟩ dX5_moves_4 (by decide) (fun c4 => ?_) (fun c4 => ?_)
  · exact absurd c4 (by decide)
  · refine lv_aload_n hx hb dX5_moves_7 rfl (lv_at hl 1 rfl) ?_
    refine va_get (D := G) (fs := [.int (ii st), .int (ii rp), .int (ii fr), .int (ii to)]) (ci := 9) (v := .int (ii st)) (C := RX10) (T := TX10) (N := 4) hx hb hts in_X10 hown hK hP mi hM rfl 0 (by decide) (hts _ q861) (fun _ h9 => h9) rfl dX5_moves_8 ?_
    refine lv_iload_n hx hb dX5_moves_11 rfl (lv_at hl 0 rfl) ?_
    refine lv_ishr hx hb dX5_moves_12 ?_
    refine li_topx (z := st) (ii_shr0 (by omega) (by omega)) ?_
    refine li_iconst hx hb dX5_moves_13 ?_
    refine lv_iand hx hb dX5_moves_14 ?_
    refine li_topx (z := st % 2) (ii_and1 (by omega) (by omega)) ?_
    refine li_iconst hx hb dX5_moves_15 ?_
    refine li_icmp_ne (tgt := 29) hx hb ⟨by omega, by omega⟩ ⟨by decide, by decide⟩ dX5_moves_16 (by decide) (fun c16 => ?_) (fun c16 => ?_)
    · refine li_iinc (a := 0) (lv' := [(2, .int (ii 1)), (0, .ref md), (1, .ref (sd 0))]) hx hb dX5_moves_29 hl (k := 0) rfl (by decide) rfl (fun ls hl => ?_)
      refine lv_goto (tgt := 2) hx hb dX5_moves_32 (by decide) ?_
      refine lv_iload_n hx hb dX5_moves_2 rfl (lv_at hl 0 rfl) ?_
      refine li_iconst hx hb dX5_moves_3 ?_
      refine li_icmp_ge (tgt := 35) hx hb ⟨by decide, by decide⟩ ⟨by decide, by decide⟩ dX5_moves_4 (by decide) (fun c4 => ?_) (fun c4 => ?_)
      · exact absurd c4 (by decide)
      · refine lv_aload_n hx hb dX5_moves_7 rfl (lv_at hl 1 rfl) ?_
        refine va_get (D := G) (fs := [.int (ii st), .int (ii rp), .int (ii fr), .int (ii to)]) (ci := 9) (v := .int (ii st)) (C := RX10) (T := TX10) (N := 4) hx hb hts in_X10 hown hK hP mi hM rfl 0 (by decide) (hts _ q861) (fun _ h9 => h9) rfl dX5_moves_8 ?_
        refine lv_iload_n hx hb dX5_moves_11 rfl (lv_at hl 0 rfl) ?_
        refine lv_ishr hx hb dX5_moves_12 ?_
        refine li_topx (z := st / 2) (ii_shr1 (by omega) (by omega)) ?_
        refine li_iconst hx hb dX5_moves_13 ?_
        refine lv_iand hx hb dX5_moves_14 ?_
        refine li_topx (z := (st / 2) % 2) (ii_and1 (by omega) (by omega)) ?_
        refine li_iconst hx hb dX5_moves_15 ?_
        refine li_icmp_ne (tgt := 29) hx hb ⟨by omega, by omega⟩ ⟨by decide, by decide⟩ dX5_moves_16 (by decide) (fun c16 => ?_) (fun c16 => ?_)
        · refine li_iinc (a := 1) (lv' := [(2, .int (ii 2)), (0, .ref md), (1, .ref (sd 0))]) hx hb dX5_moves_29 hl (k := 0) rfl (by decide) rfl (fun ls hl => ?_)
          refine lv_goto (tgt := 2) hx hb dX5_moves_32 (by decide) ?_
          refine lv_iload_n hx hb dX5_moves_2 rfl (lv_at hl 0 rfl) ?_
          refine li_iconst hx hb dX5_moves_3 ?_
          refine li_icmp_ge (tgt := 35) hx hb ⟨by decide, by decide⟩ ⟨by decide, by decide⟩ dX5_moves_4 (by decide) (fun c4 => ?_) (fun c4 => ?_)
          · exact absurd c4 (by decide)
          · refine lv_aload_n hx hb dX5_moves_7 rfl (lv_at hl 1 rfl) ?_
            refine va_get (D := G) (fs := [.int (ii st), .int (ii rp), .int (ii fr), .int (ii to)]) (ci := 9) (v := .int (ii st)) (C := RX10) (T := TX10) (N := 4) hx hb hts in_X10 hown hK hP mi hM rfl 0 (by decide) (hts _ q861) (fun _ h9 => h9) rfl dX5_moves_8 ?_
            refine lv_iload_n hx hb dX5_moves_11 rfl (lv_at hl 0 rfl) ?_
            refine lv_ishr hx hb dX5_moves_12 ?_
            refine li_topx (z := st / 4) (ii_shr2 (by omega) (by omega)) ?_
            refine li_iconst hx hb dX5_moves_13 ?_
            refine lv_iand hx hb dX5_moves_14 ?_
            refine li_topx (z := (st / 4) % 2) (ii_and1 (by omega) (by omega)) ?_
            refine li_iconst hx hb dX5_moves_15 ?_
            refine li_icmp_ne (tgt := 29) hx hb ⟨by omega, by omega⟩ ⟨by decide, by decide⟩ dX5_moves_16 (by decide) (fun c16 => ?_) (fun c16 => ?_)
            · refine li_iinc (a := 2) (lv' := [(2, .int (ii 3)), (0, .ref md), (1, .ref (sd 0))]) hx hb dX5_moves_29 hl (k := 0) rfl (by decide) rfl (fun ls hl => ?_)
              refine lv_goto (tgt := 2) hx hb dX5_moves_32 (by decide) ?_
              refine lv_iload_n hx hb dX5_moves_2 rfl (lv_at hl 0 rfl) ?_
              refine li_iconst hx hb dX5_moves_3 ?_
              refine li_icmp_ge (tgt := 35) hx hb ⟨by decide, by decide⟩ ⟨by decide, by decide⟩ dX5_moves_4 (by decide) (fun c4 => ?_) (fun c4 => ?_)
              · exact eMv hQ hx hb hr hlk hP hD hS (Nat.le_of_ble_eq_true rfl) (Nat.le_of_ble_eq_true rfl) dX5_moves_35 (⟨rfl, by have e : (w) = mvw st to w := (by funext i; simp only [mvw, ug]; omega); rw [← e]; exact (set_same hSp.2.1).symm⟩)
              · exact absurd c4 (by decide)
            · refine lv_aload_n hx hb dX5_moves_19 rfl (lv_at hl 2 rfl) ?_
              refine va_get (D := G) (fs := [.ref (sd 1), .ref (sd 2)]) (ci := 2) (v := .ref (sd 1)) (C := RX3) (T := TX3) (N := 2) hx hb hts in_X3 hown hK hP (si 0) hSp.1 rfl 0 (by decide) (hts _ q655) (fun _ h9 => h9) rfl dX5_moves_20 ?_
              refine lv_iload_n hx hb dX5_moves_23 rfl (lv_at hl 0 rfl) ?_
              refine lv_aload_n hx hb dX5_moves_24 rfl (lv_at hl 1 rfl) ?_
              refine va_get (D := G) (fs := [.int (ii st), .int (ii rp), .int (ii fr), .int (ii to)]) (ci := 9) (v := .int (ii to)) (C := RX10) (T := TX10) (N := 4) hx hb hts in_X10 hown hK hP mi hM rfl 3 (by decide) (hts _ q900) (fun _ h9 => h9) rfl dX5_moves_25 ?_
              refine li_iast (g := w) (W2 := (ws.set (si 1) (sd 1, .inl (ty 0, 3, .inl (fa (ug w 2 to)))))) hx hb hK hP hD hS (si 1) 0 hSp.2.1 rfl (by decide) (by decide) (by decide) rfl dX5_moves_28 (fun H locs hP hD hS => ?_)
              obtain ⟨ws1_, hws1_⟩ : ∃ z, z = (ws.set (si 1) (sd 1, .inl (ty 0, 3, .inl (fa (ug w 2 to))))) := ⟨_, rfl⟩
              replace hP : va_P G gcl ws1_ H := by rw [hws1_]; exact hP
              replace hD : va_D A ws1_ := by rw [hws1_]; exact hD
              have h1_0 : ws1_[(si 0)]? = some (sd 0, .inr (2, [.ref (sd 1), .ref (sd 2)])) := by rw [hws1_]; exact gs_n n_si1_si0 hSp.1
              have h1_1 : ws1_[(si 1)]? = some (sd 1, .inl (ty 0, 3, .inl (fa (ug w 2 to)))) := by rw [hws1_]; exact gs_s hSp.2.1
              have h1_2 : ws1_[(si 2)]? = some (sd 2, .inl (ty 0, 2, .inl (fa q))) := by rw [hws1_]; exact gs_n n_si1_si2 hSp.2.2
              have h1_3 : ws1_[mi]? = some (md, .inr (9, [.int (ii st), .int (ii rp), .int (ii fr), .int (ii to)])) := by rw [hws1_]; exact gs_n n_si1_mi hM
              refine li_iinc (a := 2) (lv' := [(2, .int (ii 3)), (0, .ref md), (1, .ref (sd 0))]) hx hb dX5_moves_29 hl (k := 0) rfl (by decide) rfl (fun ls hl => ?_)
              refine lv_goto (tgt := 2) hx hb dX5_moves_32 (by decide) ?_
              refine lv_iload_n hx hb dX5_moves_2 rfl (lv_at hl 0 rfl) ?_
              refine li_iconst hx hb dX5_moves_3 ?_
              refine li_icmp_ge (tgt := 35) hx hb ⟨by decide, by decide⟩ ⟨by decide, by decide⟩ dX5_moves_4 (by decide) (fun c4 => ?_) (fun c4 => ?_)
              · exact eMv hQ hx hb hr hlk hP hD hS (Nat.le_of_ble_eq_true rfl) (Nat.le_of_ble_eq_true rfl) dX5_moves_35 (⟨rfl, by have e : (ug w 2 to) = mvw st to w := (by funext i; simp only [mvw, ug]; omega); rw [hws1_]; (try simp only [List.set_set]); rw [e]⟩)
              · exact absurd c4 (by decide)
        · refine lv_aload_n hx hb dX5_moves_19 rfl (lv_at hl 2 rfl) ?_
          refine va_get (D := G) (fs := [.ref (sd 1), .ref (sd 2)]) (ci := 2) (v := .ref (sd 1)) (C := RX3) (T := TX3) (N := 2) hx hb hts in_X3 hown hK hP (si 0) hSp.1 rfl 0 (by decide) (hts _ q655) (fun _ h9 => h9) rfl dX5_moves_20 ?_
          refine lv_iload_n hx hb dX5_moves_23 rfl (lv_at hl 0 rfl) ?_
          refine lv_aload_n hx hb dX5_moves_24 rfl (lv_at hl 1 rfl) ?_
          refine va_get (D := G) (fs := [.int (ii st), .int (ii rp), .int (ii fr), .int (ii to)]) (ci := 9) (v := .int (ii to)) (C := RX10) (T := TX10) (N := 4) hx hb hts in_X10 hown hK hP mi hM rfl 3 (by decide) (hts _ q900) (fun _ h9 => h9) rfl dX5_moves_25 ?_
          refine li_iast (g := w) (W2 := (ws.set (si 1) (sd 1, .inl (ty 0, 3, .inl (fa (ug w 1 to)))))) hx hb hK hP hD hS (si 1) 0 hSp.2.1 rfl (by decide) (by decide) (by decide) rfl dX5_moves_28 (fun H locs hP hD hS => ?_)
          obtain ⟨ws1_, hws1_⟩ : ∃ z, z = (ws.set (si 1) (sd 1, .inl (ty 0, 3, .inl (fa (ug w 1 to))))) := ⟨_, rfl⟩
          replace hP : va_P G gcl ws1_ H := by rw [hws1_]; exact hP
          replace hD : va_D A ws1_ := by rw [hws1_]; exact hD
          have h1_0 : ws1_[(si 0)]? = some (sd 0, .inr (2, [.ref (sd 1), .ref (sd 2)])) := by rw [hws1_]; exact gs_n n_si1_si0 hSp.1
          have h1_1 : ws1_[(si 1)]? = some (sd 1, .inl (ty 0, 3, .inl (fa (ug w 1 to)))) := by rw [hws1_]; exact gs_s hSp.2.1
          have h1_2 : ws1_[(si 2)]? = some (sd 2, .inl (ty 0, 2, .inl (fa q))) := by rw [hws1_]; exact gs_n n_si1_si2 hSp.2.2
          have h1_3 : ws1_[mi]? = some (md, .inr (9, [.int (ii st), .int (ii rp), .int (ii fr), .int (ii to)])) := by rw [hws1_]; exact gs_n n_si1_mi hM
          refine li_iinc (a := 1) (lv' := [(2, .int (ii 2)), (0, .ref md), (1, .ref (sd 0))]) hx hb dX5_moves_29 hl (k := 0) rfl (by decide) rfl (fun ls hl => ?_)
          refine lv_goto (tgt := 2) hx hb dX5_moves_32 (by decide) ?_
          refine lv_iload_n hx hb dX5_moves_2 rfl (lv_at hl 0 rfl) ?_
          refine li_iconst hx hb dX5_moves_3 ?_
          refine li_icmp_ge (tgt := 35) hx hb ⟨by decide, by decide⟩ ⟨by decide, by decide⟩ dX5_moves_4 (by decide) (fun c4 => ?_) (fun c4 => ?_)
          · exact absurd c4 (by decide)
          · refine lv_aload_n hx hb dX5_moves_7 rfl (lv_at hl 1 rfl) ?_
            refine va_get (D := G) (fs := [.int (ii st), .int (ii rp), .int (ii fr), .int (ii to)]) (ci := 9) (v := .int (ii st)) (C := RX10) (T := TX10) (N := 4) hx hb hts in_X10 hown hK hP mi h1_3 rfl 0 (by decide) (hts _ q861) (fun _ h9 => h9) rfl dX5_moves_8 ?_
            refine lv_iload_n hx hb dX5_moves_11 rfl (lv_at hl 0 rfl) ?_
            refine lv_ishr hx hb dX5_moves_12 ?_
            refine li_topx (z := st / 4) (ii_shr2 (by omega) (by omega)) ?_
            refine li_iconst hx hb dX5_moves_13 ?_
            refine lv_iand hx hb dX5_moves_14 ?_
            refine li_topx (z := (st / 4) % 2) (ii_and1 (by omega) (by omega)) ?_
            refine li_iconst hx hb dX5_moves_15 ?_
            refine li_icmp_ne (tgt := 29) hx hb ⟨by omega, by omega⟩ ⟨by decide, by decide⟩ dX5_moves_16 (by decide) (fun c16 => ?_) (fun c16 => ?_)
            · refine li_iinc (a := 2) (lv' := [(2, .int (ii 3)), (0, .ref md), (1, .ref (sd 0))]) hx hb dX5_moves_29 hl (k := 0) rfl (by decide) rfl (fun ls hl => ?_)
              refine lv_goto (tgt := 2) hx hb dX5_moves_32 (by decide) ?_
              refine lv_iload_n hx hb dX5_moves_2 rfl (lv_at hl 0 rfl) ?_
              refine li_iconst hx hb dX5_moves_3 ?_
              refine li_icmp_ge (tgt := 35) hx hb ⟨by decide, by decide⟩ ⟨by decide, by decide⟩ dX5_moves_4 (by decide) (fun c4 => ?_) (fun c4 => ?_)
              · exact eMv hQ hx hb hr hlk hP hD hS (Nat.le_of_ble_eq_true rfl) (Nat.le_of_ble_eq_true rfl) dX5_moves_35 (⟨rfl, by have e : (ug w 1 to) = mvw st to w := (by funext i; simp only [mvw, ug]; omega); rw [hws1_]; (try simp only [List.set_set]); rw [e]⟩)
              · exact absurd c4 (by decide)
            · refine lv_aload_n hx hb dX5_moves_19 rfl (lv_at hl 2 rfl) ?_
              refine va_get (D := G) (fs := [.ref (sd 1), .ref (sd 2)]) (ci := 2) (v := .ref (sd 1)) (C := RX3) (T := TX3) (N := 2) hx hb hts in_X3 hown hK hP (si 0) h1_0 rfl 0 (by decide) (hts _ q655) (fun _ h9 => h9) rfl dX5_moves_20 ?_
              refine lv_iload_n hx hb dX5_moves_23 rfl (lv_at hl 0 rfl) ?_
              refine lv_aload_n hx hb dX5_moves_24 rfl (lv_at hl 1 rfl) ?_
              refine va_get (D := G) (fs := [.int (ii st), .int (ii rp), .int (ii fr), .int (ii to)]) (ci := 9) (v := .int (ii to)) (C := RX10) (T := TX10) (N := 4) hx hb hts in_X10 hown hK hP mi h1_3 rfl 3 (by decide) (hts _ q900) (fun _ h9 => h9) rfl dX5_moves_25 ?_
              refine li_iast (g := ug w 1 to) (W2 := (ws1_.set (si 1) (sd 1, .inl (ty 0, 3, .inl (fa (ug (ug w 1 to) 2 to)))))) hx hb hK hP hD hS (si 1) 0 h1_1 rfl (by decide) (by decide) (by decide) rfl dX5_moves_28 (fun H locs hP hD hS => ?_)
              obtain ⟨ws2_, hws2_⟩ : ∃ z, z = (ws1_.set (si 1) (sd 1, .inl (ty 0, 3, .inl (fa (ug (ug w 1 to) 2 to))))) := ⟨_, rfl⟩
              replace hP : va_P G gcl ws2_ H := by rw [hws2_]; exact hP
              replace hD : va_D A ws2_ := by rw [hws2_]; exact hD
              have h2_0 : ws2_[(si 0)]? = some (sd 0, .inr (2, [.ref (sd 1), .ref (sd 2)])) := by rw [hws2_]; exact gs_n n_si1_si0 h1_0
              have h2_1 : ws2_[(si 1)]? = some (sd 1, .inl (ty 0, 3, .inl (fa (ug (ug w 1 to) 2 to)))) := by rw [hws2_]; exact gs_s h1_1
              have h2_2 : ws2_[(si 2)]? = some (sd 2, .inl (ty 0, 2, .inl (fa q))) := by rw [hws2_]; exact gs_n n_si1_si2 h1_2
              have h2_3 : ws2_[mi]? = some (md, .inr (9, [.int (ii st), .int (ii rp), .int (ii fr), .int (ii to)])) := by rw [hws2_]; exact gs_n n_si1_mi h1_3
              refine li_iinc (a := 2) (lv' := [(2, .int (ii 3)), (0, .ref md), (1, .ref (sd 0))]) hx hb dX5_moves_29 hl (k := 0) rfl (by decide) rfl (fun ls hl => ?_)
              refine lv_goto (tgt := 2) hx hb dX5_moves_32 (by decide) ?_
              refine lv_iload_n hx hb dX5_moves_2 rfl (lv_at hl 0 rfl) ?_
              refine li_iconst hx hb dX5_moves_3 ?_
              refine li_icmp_ge (tgt := 35) hx hb ⟨by decide, by decide⟩ ⟨by decide, by decide⟩ dX5_moves_4 (by decide) (fun c4 => ?_) (fun c4 => ?_)
              · exact eMv hQ hx hb hr hlk hP hD hS (Nat.le_of_ble_eq_true rfl) (Nat.le_of_ble_eq_true rfl) dX5_moves_35 (⟨rfl, by have e : (ug (ug w 1 to) 2 to) = mvw st to w := (by funext i; simp only [mvw, ug]; omega); rw [hws2_, hws1_]; (try simp only [List.set_set]); rw [e]⟩)
              · exact absurd c4 (by decide)
    · refine lv_aload_n hx hb dX5_moves_19 rfl (lv_at hl 2 rfl) ?_
      refine va_get (D := G) (fs := [.ref (sd 1), .ref (sd 2)]) (ci := 2) (v := .ref (sd 1)) (C := RX3) (T := TX3) (N := 2) hx hb hts in_X3 hown hK hP (si 0) hSp.1 rfl 0 (by decide) (hts _ q655) (fun _ h9 => h9) rfl dX5_moves_20 ?_
      refine lv_iload_n hx hb dX5_moves_23 rfl (lv_at hl 0 rfl) ?_
      refine lv_aload_n hx hb dX5_moves_24 rfl (lv_at hl 1 rfl) ?_
      refine va_get (D := G) (fs := [.int (ii st), .int (ii rp), .int (ii fr), .int (ii to)]) (ci := 9) (v := .int (ii to)) (C := RX10) (T := TX10) (N := 4) hx hb hts in_X10 hown hK hP mi hM rfl 3 (by decide) (hts _ q900) (fun _ h9 => h9) rfl dX5_moves_25 ?_
      refine li_iast (g := w) (W2 := (ws.set (si 1) (sd 1, .inl (ty 0, 3, .inl (fa (ug w 0 to)))))) hx hb hK hP hD hS (si 1) 0 hSp.2.1 rfl (by decide) (by decide) (by decide) rfl dX5_moves_28 (fun H locs hP hD hS => ?_)
      obtain ⟨ws1_, hws1_⟩ : ∃ z, z = (ws.set (si 1) (sd 1, .inl (ty 0, 3, .inl (fa (ug w 0 to))))) := ⟨_, rfl⟩
      replace hP : va_P G gcl ws1_ H := by rw [hws1_]; exact hP
      replace hD : va_D A ws1_ := by rw [hws1_]; exact hD
      have h1_0 : ws1_[(si 0)]? = some (sd 0, .inr (2, [.ref (sd 1), .ref (sd 2)])) := by rw [hws1_]; exact gs_n n_si1_si0 hSp.1
      have h1_1 : ws1_[(si 1)]? = some (sd 1, .inl (ty 0, 3, .inl (fa (ug w 0 to)))) := by rw [hws1_]; exact gs_s hSp.2.1
      have h1_2 : ws1_[(si 2)]? = some (sd 2, .inl (ty 0, 2, .inl (fa q))) := by rw [hws1_]; exact gs_n n_si1_si2 hSp.2.2
      have h1_3 : ws1_[mi]? = some (md, .inr (9, [.int (ii st), .int (ii rp), .int (ii fr), .int (ii to)])) := by rw [hws1_]; exact gs_n n_si1_mi hM
      refine li_iinc (a := 0) (lv' := [(2, .int (ii 1)), (0, .ref md), (1, .ref (sd 0))]) hx hb dX5_moves_29 hl (k := 0) rfl (by decide) rfl (fun ls hl => ?_)
      refine lv_goto (tgt := 2) hx hb dX5_moves_32 (by decide) ?_
      refine lv_iload_n hx hb dX5_moves_2 rfl (lv_at hl 0 rfl) ?_
      refine li_iconst hx hb dX5_moves_3 ?_
      refine li_icmp_ge (tgt := 35) hx hb ⟨by decide, by decide⟩ ⟨by decide, by decide⟩ dX5_moves_4 (by decide) (fun c4 => ?_) (fun c4 => ?_)
      · exact absurd c4 (by decide)
      · refine lv_aload_n hx hb dX5_moves_7 rfl (lv_at hl 1 rfl) ?_
        refine va_get (D := G) (fs := [.int (ii st), .int (ii rp), .int (ii fr), .int (ii to)]) (ci := 9) (v := .int (ii st)) (C := RX10) (T := TX10) (N := 4) hx hb hts in_X10 hown hK hP mi h1_3 rfl 0 (by decide) (hts _ q861) (fun _ h9 => h9) rfl dX5_moves_8 ?_
        refine lv_iload_n hx hb dX5_moves_11 rfl (lv_at hl 0 rfl) ?_
        refine lv_ishr hx hb dX5_moves_12 ?_
        refine li_topx (z := st / 2) (ii_shr1 (by omega) (by omega)) ?_
        refine li_iconst hx hb dX5_moves_13 ?_
        refine lv_iand hx hb dX5_moves_14 ?_
        refine li_topx (z := (st / 2) % 2) (ii_and1 (by omega) (by omega)) ?_
        refine li_iconst hx hb dX5_moves_15 ?_
        refine li_icmp_ne (tgt := 29) hx hb ⟨by omega, by omega⟩ ⟨by decide, by decide⟩ dX5_moves_16 (by decide) (fun c16 => ?_) (fun c16 => ?_)
        · refine li_iinc (a := 1) (lv' := [(2, .int (ii 2)), (0, .ref md), (1, .ref (sd 0))]) hx hb dX5_moves_29 hl (k := 0) rfl (by decide) rfl (fun ls hl => ?_)
          refine lv_goto (tgt := 2) hx hb dX5_moves_32 (by decide) ?_
          refine lv_iload_n hx hb dX5_moves_2 rfl (lv_at hl 0 rfl) ?_
          refine li_iconst hx hb dX5_moves_3 ?_
          refine li_icmp_ge (tgt := 35) hx hb ⟨by decide, by decide⟩ ⟨by decide, by decide⟩ dX5_moves_4 (by decide) (fun c4 => ?_) (fun c4 => ?_)
          · exact absurd c4 (by decide)
          · refine lv_aload_n hx hb dX5_moves_7 rfl (lv_at hl 1 rfl) ?_
            refine va_get (D := G) (fs := [.int (ii st), .int (ii rp), .int (ii fr), .int (ii to)]) (ci := 9) (v := .int (ii st)) (C := RX10) (T := TX10) (N := 4) hx hb hts in_X10 hown hK hP mi h1_3 rfl 0 (by decide) (hts _ q861) (fun _ h9 => h9) rfl dX5_moves_8 ?_
            refine lv_iload_n hx hb dX5_moves_11 rfl (lv_at hl 0 rfl) ?_
            refine lv_ishr hx hb dX5_moves_12 ?_
            refine li_topx (z := st / 4) (ii_shr2 (by omega) (by omega)) ?_
            refine li_iconst hx hb dX5_moves_13 ?_
            refine lv_iand hx hb dX5_moves_14 ?_
            refine li_topx (z := (st / 4) % 2) (ii_and1 (by omega) (by omega)) ?_
            refine li_iconst hx hb dX5_moves_15 ?_
            refine li_icmp_ne (tgt := 29) hx hb ⟨by omega, by omega⟩ ⟨by decide, by decide⟩ dX5_moves_16 (by decide) (fun c16 => ?_) (fun c16 => ?_)
            · refine li_iinc (a := 2) (lv' := [(2, .int (ii 3)), (0, .ref md), (1, .ref (sd 0))]) hx hb dX5_moves_29 hl (k := 0) rfl (by decide) rfl (fun ls hl => ?_)
              refine lv_goto (tgt := 2) hx hb dX5_moves_32 (by decide) ?_
              refine lv_iload_n hx hb dX5_moves_2 rfl (lv_at hl 0 rfl) ?_
              refine li_iconst hx hb dX5_moves_3 ?_
              refine li_icmp_ge (tgt := 35) hx hb ⟨by decide, by decide⟩ ⟨by decide, by decide⟩ dX5_moves_4 (by decide) (fun c4 => ?_) (fun c4 => ?_)
              · exact eMv hQ hx hb hr hlk hP hD hS (Nat.le_of_ble_eq_true rfl) (Nat.le_of_ble_eq_true rfl) dX5_moves_35 (⟨rfl, by have e : (ug w 0 to) = mvw st to w := (by funext i; simp only [mvw, ug]; omega); rw [hws1_]; (try simp only [List.set_set]); rw [e]⟩)
              · exact absurd c4 (by decide)
            · refine lv_aload_n hx hb dX5_moves_19 rfl (lv_at hl 2 rfl) ?_
              refine va_get (D := G) (fs := [.ref (sd 1), .ref (sd 2)]) (ci := 2) (v := .ref (sd 1)) (C := RX3) (T := TX3) (N := 2) hx hb hts in_X3 hown hK hP (si 0) h1_0 rfl 0 (by decide) (hts _ q655) (fun _ h9 => h9) rfl dX5_moves_20 ?_
              refine lv_iload_n hx hb dX5_moves_23 rfl (lv_at hl 0 rfl) ?_
              refine lv_aload_n hx hb dX5_moves_24 rfl (lv_at hl 1 rfl) ?_
              refine va_get (D := G) (fs := [.int (ii st), .int (ii rp), .int (ii fr), .int (ii to)]) (ci := 9) (v := .int (ii to)) (C := RX10) (T := TX10) (N := 4) hx hb hts in_X10 hown hK hP mi h1_3 rfl 3 (by decide) (hts _ q900) (fun _ h9 => h9) rfl dX5_moves_25 ?_
              refine li_iast (g := ug w 0 to) (W2 := (ws1_.set (si 1) (sd 1, .inl (ty 0, 3, .inl (fa (ug (ug w 0 to) 2 to)))))) hx hb hK hP hD hS (si 1) 0 h1_1 rfl (by decide) (by decide) (by decide) rfl dX5_moves_28 (fun H locs hP hD hS => ?_)
              obtain ⟨ws2_, hws2_⟩ : ∃ z, z = (ws1_.set (si 1) (sd 1, .inl (ty 0, 3, .inl (fa (ug (ug w 0 to) 2 to))))) := ⟨_, rfl⟩
              replace hP : va_P G gcl ws2_ H := by rw [hws2_]; exact hP
              replace hD : va_D A ws2_ := by rw [hws2_]; exact hD
              have h2_0 : ws2_[(si 0)]? = some (sd 0, .inr (2, [.ref (sd 1), .ref (sd 2)])) := by rw [hws2_]; exact gs_n n_si1_si0 h1_0
              have h2_1 : ws2_[(si 1)]? = some (sd 1, .inl (ty 0, 3, .inl (fa (ug (ug w 0 to) 2 to)))) := by rw [hws2_]; exact gs_s h1_1
              have h2_2 : ws2_[(si 2)]? = some (sd 2, .inl (ty 0, 2, .inl (fa q))) := by rw [hws2_]; exact gs_n n_si1_si2 h1_2
              have h2_3 : ws2_[mi]? = some (md, .inr (9, [.int (ii st), .int (ii rp), .int (ii fr), .int (ii to)])) := by rw [hws2_]; exact gs_n n_si1_mi h1_3
              refine li_iinc (a := 2) (lv' := [(2, .int (ii 3)), (0, .ref md), (1, .ref (sd 0))]) hx hb dX5_moves_29 hl (k := 0) rfl (by decide) rfl (fun ls hl => ?_)
              refine lv_goto (tgt := 2) hx hb dX5_moves_32 (by decide) ?_
              refine lv_iload_n hx hb dX5_moves_2 rfl (lv_at hl 0 rfl) ?_
              refine li_iconst hx hb dX5_moves_3 ?_
              refine li_icmp_ge (tgt := 35) hx hb ⟨by decide, by decide⟩ ⟨by decide, by decide⟩ dX5_moves_4 (by decide) (fun c4 => ?_) (fun c4 => ?_)
              · exact eMv hQ hx hb hr hlk hP hD hS (Nat.le_of_ble_eq_true rfl) (Nat.le_of_ble_eq_true rfl) dX5_moves_35 (⟨rfl, by have e : (ug (ug w 0 to) 2 to) = mvw st to w := (by funext i; simp only [mvw, ug]; omega); rw [hws2_, hws1_]; (try simp only [List.set_set]); rw [e]⟩)
              · exact absurd c4 (by decide)
        · refine lv_aload_n hx hb dX5_moves_19 rfl (lv_at hl 2 rfl) ?_
          refine va_get (D := G) (fs := [.ref (sd 1), .ref (sd 2)]) (ci := 2) (v := .ref (sd 1)) (C := RX3) (T := TX3) (N := 2) hx hb hts in_X3 hown hK hP (si 0) h1_0 rfl 0 (by decide) (hts _ q655) (fun _ h9 => h9) rfl dX5_moves_20 ?_
          refine lv_iload_n hx hb dX5_moves_23 rfl (lv_at hl 0 rfl) ?_
          refine lv_aload_n hx hb dX5_moves_24 rfl (lv_at hl 1 rfl) ?_
          refine va_get (D := G) (fs := [.int (ii st), .int (ii rp), .int (ii fr), .int (ii to)]) (ci := 9) (v := .int (ii to)) (C := RX10) (T := TX10) (N := 4) hx hb hts in_X10 hown hK hP mi h1_3 rfl 3 (by decide) (hts _ q900) (fun _ h9 => h9) rfl dX5_moves_25 ?_
          refine li_iast (g := ug w 0 to) (W2 := (ws1_.set (si 1) (sd 1, .inl (ty 0, 3, .inl (fa (ug (ug w 0 to) 1 to)))))) hx hb hK hP hD hS (si 1) 0 h1_1 rfl (by decide) (by decide) (by decide) rfl dX5_moves_28 (fun H locs hP hD hS => ?_)
          obtain ⟨ws2_, hws2_⟩ : ∃ z, z = (ws1_.set (si 1) (sd 1, .inl (ty 0, 3, .inl (fa (ug (ug w 0 to) 1 to))))) := ⟨_, rfl⟩
          replace hP : va_P G gcl ws2_ H := by rw [hws2_]; exact hP
          replace hD : va_D A ws2_ := by rw [hws2_]; exact hD
          have h2_0 : ws2_[(si 0)]? = some (sd 0, .inr (2, [.ref (sd 1), .ref (sd 2)])) := by rw [hws2_]; exact gs_n n_si1_si0 h1_0
          have h2_1 : ws2_[(si 1)]? = some (sd 1, .inl (ty 0, 3, .inl (fa (ug (ug w 0 to) 1 to)))) := by rw [hws2_]; exact gs_s h1_1
          have h2_2 : ws2_[(si 2)]? = some (sd 2, .inl (ty 0, 2, .inl (fa q))) := by rw [hws2_]; exact gs_n n_si1_si2 h1_2
          have h2_3 : ws2_[mi]? = some (md, .inr (9, [.int (ii st), .int (ii rp), .int (ii fr), .int (ii to)])) := by rw [hws2_]; exact gs_n n_si1_mi h1_3
          refine li_iinc (a := 1) (lv' := [(2, .int (ii 2)), (0, .ref md), (1, .ref (sd 0))]) hx hb dX5_moves_29 hl (k := 0) rfl (by decide) rfl (fun ls hl => ?_)
          refine lv_goto (tgt := 2) hx hb dX5_moves_32 (by decide) ?_
          refine lv_iload_n hx hb dX5_moves_2 rfl (lv_at hl 0 rfl) ?_
          refine li_iconst hx hb dX5_moves_3 ?_
          refine li_icmp_ge (tgt := 35) hx hb ⟨by decide, by decide⟩ ⟨by decide, by decide⟩ dX5_moves_4 (by decide) (fun c4 => ?_) (fun c4 => ?_)
          · exact absurd c4 (by decide)
          · refine lv_aload_n hx hb dX5_moves_7 rfl (lv_at hl 1 rfl) ?_
            refine va_get (D := G) (fs := [.int (ii st), .int (ii rp), .int (ii fr), .int (ii to)]) (ci := 9) (v := .int (ii st)) (C := RX10) (T := TX10) (N := 4) hx hb hts in_X10 hown hK hP mi h2_3 rfl 0 (by decide) (hts _ q861) (fun _ h9 => h9) rfl dX5_moves_8 ?_
            refine lv_iload_n hx hb dX5_moves_11 rfl (lv_at hl 0 rfl) ?_
            refine lv_ishr hx hb dX5_moves_12 ?_
            refine li_topx (z := st / 4) (ii_shr2 (by omega) (by omega)) ?_
            refine li_iconst hx hb dX5_moves_13 ?_
            refine lv_iand hx hb dX5_moves_14 ?_
            refine li_topx (z := (st / 4) % 2) (ii_and1 (by omega) (by omega)) ?_
            refine li_iconst hx hb dX5_moves_15 ?_
            refine li_icmp_ne (tgt := 29) hx hb ⟨by omega, by omega⟩ ⟨by decide, by decide⟩ dX5_moves_16 (by decide) (fun c16 => ?_) (fun c16 => ?_)
            · refine li_iinc (a := 2) (lv' := [(2, .int (ii 3)), (0, .ref md), (1, .ref (sd 0))]) hx hb dX5_moves_29 hl (k := 0) rfl (by decide) rfl (fun ls hl => ?_)
              refine lv_goto (tgt := 2) hx hb dX5_moves_32 (by decide) ?_
              refine lv_iload_n hx hb dX5_moves_2 rfl (lv_at hl 0 rfl) ?_
              refine li_iconst hx hb dX5_moves_3 ?_
              refine li_icmp_ge (tgt := 35) hx hb ⟨by decide, by decide⟩ ⟨by decide, by decide⟩ dX5_moves_4 (by decide) (fun c4 => ?_) (fun c4 => ?_)
              · exact eMv hQ hx hb hr hlk hP hD hS (Nat.le_of_ble_eq_true rfl) (Nat.le_of_ble_eq_true rfl) dX5_moves_35 (⟨rfl, by have e : (ug (ug w 0 to) 1 to) = mvw st to w := (by funext i; simp only [mvw, ug]; omega); rw [hws2_, hws1_]; (try simp only [List.set_set]); rw [e]⟩)
              · exact absurd c4 (by decide)
            · refine lv_aload_n hx hb dX5_moves_19 rfl (lv_at hl 2 rfl) ?_
              refine va_get (D := G) (fs := [.ref (sd 1), .ref (sd 2)]) (ci := 2) (v := .ref (sd 1)) (C := RX3) (T := TX3) (N := 2) hx hb hts in_X3 hown hK hP (si 0) h2_0 rfl 0 (by decide) (hts _ q655) (fun _ h9 => h9) rfl dX5_moves_20 ?_
              refine lv_iload_n hx hb dX5_moves_23 rfl (lv_at hl 0 rfl) ?_
              refine lv_aload_n hx hb dX5_moves_24 rfl (lv_at hl 1 rfl) ?_
              refine va_get (D := G) (fs := [.int (ii st), .int (ii rp), .int (ii fr), .int (ii to)]) (ci := 9) (v := .int (ii to)) (C := RX10) (T := TX10) (N := 4) hx hb hts in_X10 hown hK hP mi h2_3 rfl 3 (by decide) (hts _ q900) (fun _ h9 => h9) rfl dX5_moves_25 ?_
              refine li_iast (g := ug (ug w 0 to) 1 to) (W2 := (ws2_.set (si 1) (sd 1, .inl (ty 0, 3, .inl (fa (ug (ug (ug w 0 to) 1 to) 2 to)))))) hx hb hK hP hD hS (si 1) 0 h2_1 rfl (by decide) (by decide) (by decide) rfl dX5_moves_28 (fun H locs hP hD hS => ?_)
              obtain ⟨ws3_, hws3_⟩ : ∃ z, z = (ws2_.set (si 1) (sd 1, .inl (ty 0, 3, .inl (fa (ug (ug (ug w 0 to) 1 to) 2 to))))) := ⟨_, rfl⟩
              replace hP : va_P G gcl ws3_ H := by rw [hws3_]; exact hP
              replace hD : va_D A ws3_ := by rw [hws3_]; exact hD
              have h3_0 : ws3_[(si 0)]? = some (sd 0, .inr (2, [.ref (sd 1), .ref (sd 2)])) := by rw [hws3_]; exact gs_n n_si1_si0 h2_0
              have h3_1 : ws3_[(si 1)]? = some (sd 1, .inl (ty 0, 3, .inl (fa (ug (ug (ug w 0 to) 1 to) 2 to)))) := by rw [hws3_]; exact gs_s h2_1
              have h3_2 : ws3_[(si 2)]? = some (sd 2, .inl (ty 0, 2, .inl (fa q))) := by rw [hws3_]; exact gs_n n_si1_si2 h2_2
              have h3_3 : ws3_[mi]? = some (md, .inr (9, [.int (ii st), .int (ii rp), .int (ii fr), .int (ii to)])) := by rw [hws3_]; exact gs_n n_si1_mi h2_3
              refine li_iinc (a := 2) (lv' := [(2, .int (ii 3)), (0, .ref md), (1, .ref (sd 0))]) hx hb dX5_moves_29 hl (k := 0) rfl (by decide) rfl (fun ls hl => ?_)
              refine lv_goto (tgt := 2) hx hb dX5_moves_32 (by decide) ?_
              refine lv_iload_n hx hb dX5_moves_2 rfl (lv_at hl 0 rfl) ?_
              refine li_iconst hx hb dX5_moves_3 ?_
              refine li_icmp_ge (tgt := 35) hx hb ⟨by decide, by decide⟩ ⟨by decide, by decide⟩ dX5_moves_4 (by decide) (fun c4 => ?_) (fun c4 => ?_)
              · exact eMv hQ hx hb hr hlk hP hD hS (Nat.le_of_ble_eq_true rfl) (Nat.le_of_ble_eq_true rfl) dX5_moves_35 (⟨rfl, by have e : (ug (ug (ug w 0 to) 1 to) 2 to) = mvw st to w := (by funext i; simp only [mvw, ug]; omega); rw [hws3_, hws2_, hws1_]; (try simp only [List.set_set]); rw [e]⟩)
              · exact absurd c4 (by decide)
set_option maxHeartbeats 4000000 in
theorem m_does0_10 (l : Launch) (G : va_G) (ty : Nat → ClassId) (ws : va_W) (si sd : Nat → Nat) (w q : Int → Int) (mi md : Nat) (st rp fr to : Int)  (hSp : spotAt ty ws si sd w q) (hM : moveAt ws 9 mi md st rp fr to) (hm : 0 ≤ st ∧ st ≤ 7 ∧ 0 ≤ rp ∧ rp ≤ 1 ∧ 0 ≤ fr ∧ fr ≤ 4 ∧ 0 ≤ to ∧ to ≤ 4) (n_si1_si0 : (si 1) ≠ (si 0)) (n_si1_si2 : (si 1) ≠ (si 2)) (n_si1_mi : (si 1) ≠ mi) : cM l yX5_does (ws_ yX5_does cX5_does 2 none) (rm4 1 0 0 22) G ty (ws) [.ref md, .ref (sd 0)] 0 0 (fun r W' => r = none ∧ W' = ws.set (si 1) (sd 1, .inl (ty 0, 3, .inl (fa (mvw st to w))))) := by
  refine cM.of (by decide) (Nat.le_of_ble_eq_true rfl) ?_
  intro p e s m args below meth c A Q H locs hQ hx hb hr hml hown hlk hname hts hK hP hD hS hA hX ls hl
  have hl : lv_has ls 2 [(0, .ref md), (1, .ref (sd 0))] := hl
  refine lv_aload_n hx hb dX5_does_0 rfl (lv_at hl 0 rfl) ?_
  refine lv_aload_n hx hb dX5_does_1 rfl (lv_at hl 1 rfl) ?_
  refine kM (va_runU (x := yX5_moves) (As := [.ref (sd 0)]) (rest := []) ⟨hx, hb, hml, hown, hts⟩ ((m_moves_10 l G ty ws si sd w q mi md st rp fr to hSp hM hm n_si1_si0 n_si1_si2 n_si1_mi) H.size) (va_cwU (own := "DownRope$Move") (index := 57) (C := "DownRope$Climb") (owner := "DownRope$Move") (x := yX5_moves) (y := yX5_moves) 1 hts (lw_app (lw_in _ [515, 518, 519, 516, 80] (by decide +kernel) (by decide +kernel)) (lw_meth q525)) rfl rfl rfl rfl (by decide +kernel) ⟨Nat.le_of_ble_eq_true rfl, Nat.le_of_ble_eq_true rfl⟩) (pvM (r := (RX10, TX10, 4)) hK hP hD hX mi hM rfl) rfl rfl hl.1 rfl (lv_room (Nat.le_of_ble_eq_true rfl)) dX5_does_2 ⟨Nat.le_of_ble_eq_true rfl, Nat.le_of_ble_eq_true rfl⟩) hD hS hA (fun v ws1 H locs hv hP hD hS => ?_)
  obtain ⟨rfl, rfl⟩ := hv
  obtain ⟨ws1_, hws1_⟩ : ∃ z, z = (ws.set (si 1) (sd 1, .inl (ty 0, 3, .inl (fa (mvw st to w))))) := ⟨_, rfl⟩
  replace hP : va_P G gcl ws1_ H := by rw [hws1_]; exact hP
  replace hD : va_D A ws1_ := by rw [hws1_]; exact hD
  have h1_0 : ws1_[(si 0)]? = some (sd 0, .inr (2, [.ref (sd 1), .ref (sd 2)])) := by rw [hws1_]; exact gs_n n_si1_si0 hSp.1
  have h1_1 : ws1_[(si 1)]? = some (sd 1, .inl (ty 0, 3, .inl (fa (mvw st to w)))) := by rw [hws1_]; exact gs_s hSp.2.1
  have h1_2 : ws1_[(si 2)]? = some (sd 2, .inl (ty 0, 2, .inl (fa q))) := by rw [hws1_]; exact gs_n n_si1_si2 hSp.2.2
  have h1_3 : ws1_[mi]? = some (md, .inr (9, [.int (ii st), .int (ii rp), .int (ii fr), .int (ii to)])) := by rw [hws1_]; exact gs_n n_si1_mi hM
  exact eMv hQ hx hb hr hlk hP hD hS (Nat.le_of_ble_eq_true rfl) (Nat.le_of_ble_eq_true rfl) dX5_does_5 (⟨rfl, by rw [hws1_]⟩)
set_option maxHeartbeats 4000000 in
theorem m_moves_11 (l : Launch) (G : va_G) (ty : Nat → ClassId) (ws : va_W) (si sd : Nat → Nat) (w q : Int → Int) (mi md : Nat) (st rp fr to : Int)  (hSp : spotAt ty ws si sd w q) (hM : moveAt ws 10 mi md st rp fr to) (hm : 0 ≤ st ∧ st ≤ 7 ∧ 0 ≤ rp ∧ rp ≤ 1 ∧ 0 ≤ fr ∧ fr ≤ 4 ∧ 0 ≤ to ∧ to ≤ 4) (n_si1_si0 : (si 1) ≠ (si 0)) (n_si1_si2 : (si 1) ≠ (si 2)) (n_si1_mi : (si 1) ≠ mi) : cM l yX5_moves (ws_ yX5_moves cX5_moves 3 none) (rm4 0 0 0 0) G ty (ws) [.ref md, .ref (sd 0)] 0 0 (fun r W' => r = none ∧ W' = ws.set (si 1) (sd 1, .inl (ty 0, 3, .inl (fa (mvw st to w))))) := by
  refine cM.of (by decide) (Nat.le_of_ble_eq_true rfl) ?_
  intro p e s m args below meth c A Q H locs hQ hx hb hr hml hown hlk hname hts hK hP hD hS hA hX ls hl
  have hl : lv_has ls 3 [(0, .ref md), (1, .ref (sd 0))] := hl
  obtain ⟨hm0, hm1, hm2, hm3, hm4, hm5, hm6, hm7⟩ := id hm
  refine li_iconst hx hb dX5_moves_0 ?_
  refine lv_istore_n (lv' := [(2, .int (ii 0)), (0, .ref md), (1, .ref (sd 0))]) hx hb dX5_moves_1 rfl hl (by decide) rfl (fun ls hl => ?_)
  refine lv_iload_n hx hb dX5_moves_2 rfl (lv_at hl 0 rfl) ?_
  refine li_iconst hx hb dX5_moves_3 ?_
  refine li_icmp_ge (tgt := 35) hx hb ⟨by decide, by decide⟩ ⟨by decide, by decide⟩ dX5_moves_4 (by decide) (fun c4 => ?_) (fun c4 => ?_)
  · exact absurd c4 (by decide)
  · refine lv_aload_n hx hb dX5_moves_7 rfl (lv_at hl 1 rfl) ?_
    refine va_get (D := G) (fs := [.int (ii st), .int (ii rp), .int (ii fr), .int (ii to)]) (ci := 10) (v := .int (ii st)) (C := RX11) (T := TX11) (N := 4) hx hb hts in_X11 hown hK hP mi hM rfl 0 (by decide) (hts _ q861) (fun _ h9 => h9) rfl dX5_moves_8 ?_
    refine lv_iload_n hx hb dX5_moves_11 rfl (lv_at hl 0 rfl) ?_
    refine lv_ishr hx hb dX5_moves_12 ?_
    refine li_topx (z := st) (ii_shr0 (by omega) (by omega)) ?_
    refine li_iconst hx hb dX5_moves_13 ?_
    refine lv_iand hx hb dX5_moves_14 ?_
    refine li_topx (z := st % 2) (ii_and1 (by omega) (by omega)) ?_
    refine li_iconst hx hb dX5_moves_15 ?_
    refine li_icmp_ne (tgt := 29) hx hb ⟨by omega, by omega⟩ ⟨by decide, by decide⟩ dX5_moves_16 (by decide) (fun c16 => ?_) (fun c16 => ?_)
    · refine li_iinc (a := 0) (lv' := [(2, .int (ii 1)), (0, .ref md), (1, .ref (sd 0))]) hx hb dX5_moves_29 hl (k := 0) rfl (by decide) rfl (fun ls hl => ?_)
      refine lv_goto (tgt := 2) hx hb dX5_moves_32 (by decide) ?_
      refine lv_iload_n hx hb dX5_moves_2 rfl (lv_at hl 0 rfl) ?_
      refine li_iconst hx hb dX5_moves_3 ?_
      refine li_icmp_ge (tgt := 35) hx hb ⟨by decide, by decide⟩ ⟨by decide, by decide⟩ dX5_moves_4 (by decide) (fun c4 => ?_) (fun c4 => ?_)
      · exact absurd c4 (by decide)
      · refine lv_aload_n hx hb dX5_moves_7 rfl (lv_at hl 1 rfl) ?_
        refine va_get (D := G) (fs := [.int (ii st), .int (ii rp), .int (ii fr), .int (ii to)]) (ci := 10) (v := .int (ii st)) (C := RX11) (T := TX11) (N := 4) hx hb hts in_X11 hown hK hP mi hM rfl 0 (by decide) (hts _ q861) (fun _ h9 => h9) rfl dX5_moves_8 ?_
        refine lv_iload_n hx hb dX5_moves_11 rfl (lv_at hl 0 rfl) ?_
        refine lv_ishr hx hb dX5_moves_12 ?_
        refine li_topx (z := st / 2) (ii_shr1 (by omega) (by omega)) ?_
        refine li_iconst hx hb dX5_moves_13 ?_
        refine lv_iand hx hb dX5_moves_14 ?_
        refine li_topx (z := (st / 2) % 2) (ii_and1 (by omega) (by omega)) ?_
        refine li_iconst hx hb dX5_moves_15 ?_
        refine li_icmp_ne (tgt := 29) hx hb ⟨by omega, by omega⟩ ⟨by decide, by decide⟩ dX5_moves_16 (by decide) (fun c16 => ?_) (fun c16 => ?_)
        · refine li_iinc (a := 1) (lv' := [(2, .int (ii 2)), (0, .ref md), (1, .ref (sd 0))]) hx hb dX5_moves_29 hl (k := 0) rfl (by decide) rfl (fun ls hl => ?_)
          refine lv_goto (tgt := 2) hx hb dX5_moves_32 (by decide) ?_
          refine lv_iload_n hx hb dX5_moves_2 rfl (lv_at hl 0 rfl) ?_
          refine li_iconst hx hb dX5_moves_3 ?_
          refine li_icmp_ge (tgt := 35) hx hb ⟨by decide, by decide⟩ ⟨by decide, by decide⟩ dX5_moves_4 (by decide) (fun c4 => ?_) (fun c4 => ?_)
          · exact absurd c4 (by decide)
          · refine lv_aload_n hx hb dX5_moves_7 rfl (lv_at hl 1 rfl) ?_
            refine va_get (D := G) (fs := [.int (ii st), .int (ii rp), .int (ii fr), .int (ii to)]) (ci := 10) (v := .int (ii st)) (C := RX11) (T := TX11) (N := 4) hx hb hts in_X11 hown hK hP mi hM rfl 0 (by decide) (hts _ q861) (fun _ h9 => h9) rfl dX5_moves_8 ?_
            refine lv_iload_n hx hb dX5_moves_11 rfl (lv_at hl 0 rfl) ?_
            refine lv_ishr hx hb dX5_moves_12 ?_
            refine li_topx (z := st / 4) (ii_shr2 (by omega) (by omega)) ?_
            refine li_iconst hx hb dX5_moves_13 ?_
            refine lv_iand hx hb dX5_moves_14 ?_
            refine li_topx (z := (st / 4) % 2) (ii_and1 (by omega) (by omega)) ?_
            refine li_iconst hx hb dX5_moves_15 ?_
            refine li_icmp_ne (tgt := 29) hx hb ⟨by omega, by omega⟩ ⟨by decide, by decide⟩ dX5_moves_16 (by decide) (fun c16 => ?_) (fun c16 => ?_)
            · refine li_iinc (a := 2) (lv' := [(2, .int (ii 3)), (0, .ref md), (1, .ref (sd 0))]) hx hb dX5_moves_29 hl (k := 0) rfl (by decide) rfl (fun ls hl => ?_)
              refine lv_goto (tgt := 2) hx hb dX5_moves_32 (by decide) ?_
              refine lv_iload_n hx hb dX5_moves_2 rfl (lv_at hl 0 rfl) ?_
              refine li_iconst hx hb dX5_moves_3 ?_
              refine li_icmp_ge (tgt := 35) hx hb ⟨by decide, by decide⟩ ⟨by decide, by decide⟩ dX5_moves_4 (by decide) (fun c4 => ?_) (fun c4 => ?_)
              · exact eMv hQ hx hb hr hlk hP hD hS (Nat.le_of_ble_eq_true rfl) (Nat.le_of_ble_eq_true rfl) dX5_moves_35 (⟨rfl, by have e : (w) = mvw st to w := (by funext i; simp only [mvw, ug]; omega); rw [← e]; exact (set_same hSp.2.1).symm⟩)
              · exact absurd c4 (by decide)
            · refine lv_aload_n hx hb dX5_moves_19 rfl (lv_at hl 2 rfl) ?_
              refine va_get (D := G) (fs := [.ref (sd 1), .ref (sd 2)]) (ci := 2) (v := .ref (sd 1)) (C := RX3) (T := TX3) (N := 2) hx hb hts in_X3 hown hK hP (si 0) hSp.1 rfl 0 (by decide) (hts _ q655) (fun _ h9 => h9) rfl dX5_moves_20 ?_
              refine lv_iload_n hx hb dX5_moves_23 rfl (lv_at hl 0 rfl) ?_
              refine lv_aload_n hx hb dX5_moves_24 rfl (lv_at hl 1 rfl) ?_
              refine va_get (D := G) (fs := [.int (ii st), .int (ii rp), .int (ii fr), .int (ii to)]) (ci := 10) (v := .int (ii to)) (C := RX11) (T := TX11) (N := 4) hx hb hts in_X11 hown hK hP mi hM rfl 3 (by decide) (hts _ q900) (fun _ h9 => h9) rfl dX5_moves_25 ?_
              refine li_iast (g := w) (W2 := (ws.set (si 1) (sd 1, .inl (ty 0, 3, .inl (fa (ug w 2 to)))))) hx hb hK hP hD hS (si 1) 0 hSp.2.1 rfl (by decide) (by decide) (by decide) rfl dX5_moves_28 (fun H locs hP hD hS => ?_)
              obtain ⟨ws1_, hws1_⟩ : ∃ z, z = (ws.set (si 1) (sd 1, .inl (ty 0, 3, .inl (fa (ug w 2 to))))) := ⟨_, rfl⟩
              replace hP : va_P G gcl ws1_ H := by rw [hws1_]; exact hP
              replace hD : va_D A ws1_ := by rw [hws1_]; exact hD
              have h1_0 : ws1_[(si 0)]? = some (sd 0, .inr (2, [.ref (sd 1), .ref (sd 2)])) := by rw [hws1_]; exact gs_n n_si1_si0 hSp.1
              have h1_1 : ws1_[(si 1)]? = some (sd 1, .inl (ty 0, 3, .inl (fa (ug w 2 to)))) := by rw [hws1_]; exact gs_s hSp.2.1
              have h1_2 : ws1_[(si 2)]? = some (sd 2, .inl (ty 0, 2, .inl (fa q))) := by rw [hws1_]; exact gs_n n_si1_si2 hSp.2.2
              have h1_3 : ws1_[mi]? = some (md, .inr (10, [.int (ii st), .int (ii rp), .int (ii fr), .int (ii to)])) := by rw [hws1_]; exact gs_n n_si1_mi hM
              refine li_iinc (a := 2) (lv' := [(2, .int (ii 3)), (0, .ref md), (1, .ref (sd 0))]) hx hb dX5_moves_29 hl (k := 0) rfl (by decide) rfl (fun ls hl => ?_)
              refine lv_goto (tgt := 2) hx hb dX5_moves_32 (by decide) ?_
              refine lv_iload_n hx hb dX5_moves_2 rfl (lv_at hl 0 rfl) ?_
              refine li_iconst hx hb dX5_moves_3 ?_
              refine li_icmp_ge (tgt := 35) hx hb ⟨by decide, by decide⟩ ⟨by decide, by decide⟩ dX5_moves_4 (by decide) (fun c4 => ?_) (fun c4 => ?_)
              · exact eMv hQ hx hb hr hlk hP hD hS (Nat.le_of_ble_eq_true rfl) (Nat.le_of_ble_eq_true rfl) dX5_moves_35 (⟨rfl, by have e : (ug w 2 to) = mvw st to w := (by funext i; simp only [mvw, ug]; omega); rw [hws1_]; (try simp only [List.set_set]); rw [e]⟩)
              · exact absurd c4 (by decide)
        · refine lv_aload_n hx hb dX5_moves_19 rfl (lv_at hl 2 rfl) ?_
          refine va_get (D := G) (fs := [.ref (sd 1), .ref (sd 2)]) (ci := 2) (v := .ref (sd 1)) (C := RX3) (T := TX3) (N := 2) hx hb hts in_X3 hown hK hP (si 0) hSp.1 rfl 0 (by decide) (hts _ q655) (fun _ h9 => h9) rfl dX5_moves_20 ?_
          refine lv_iload_n hx hb dX5_moves_23 rfl (lv_at hl 0 rfl) ?_
          refine lv_aload_n hx hb dX5_moves_24 rfl (lv_at hl 1 rfl) ?_
          refine va_get (D := G) (fs := [.int (ii st), .int (ii rp), .int (ii fr), .int (ii to)]) (ci := 10) (v := .int (ii to)) (C := RX11) (T := TX11) (N := 4) hx hb hts in_X11 hown hK hP mi hM rfl 3 (by decide) (hts _ q900) (fun _ h9 => h9) rfl dX5_moves_25 ?_
          refine li_iast (g := w) (W2 := (ws.set (si 1) (sd 1, .inl (ty 0, 3, .inl (fa (ug w 1 to)))))) hx hb hK hP hD hS (si 1) 0 hSp.2.1 rfl (by decide) (by decide) (by decide) rfl dX5_moves_28 (fun H locs hP hD hS => ?_)
          obtain ⟨ws1_, hws1_⟩ : ∃ z, z = (ws.set (si 1) (sd 1, .inl (ty 0, 3, .inl (fa (ug w 1 to))))) := ⟨_, rfl⟩
          replace hP : va_P G gcl ws1_ H := by rw [hws1_]; exact hP
          replace hD : va_D A ws1_ := by rw [hws1_]; exact hD
          have h1_0 : ws1_[(si 0)]? = some (sd 0, .inr (2, [.ref (sd 1), .ref (sd 2)])) := by rw [hws1_]; exact gs_n n_si1_si0 hSp.1
          have h1_1 : ws1_[(si 1)]? = some (sd 1, .inl (ty 0, 3, .inl (fa (ug w 1 to)))) := by rw [hws1_]; exact gs_s hSp.2.1
          have h1_2 : ws1_[(si 2)]? = some (sd 2, .inl (ty 0, 2, .inl (fa q))) := by rw [hws1_]; exact gs_n n_si1_si2 hSp.2.2
          have h1_3 : ws1_[mi]? = some (md, .inr (10, [.int (ii st), .int (ii rp), .int (ii fr), .int (ii to)])) := by rw [hws1_]; exact gs_n n_si1_mi hM
          refine li_iinc (a := 1) (lv' := [(2, .int (ii 2)), (0, .ref md), (1, .ref (sd 0))]) hx hb dX5_moves_29 hl (k := 0) rfl (by decide) rfl (fun ls hl => ?_)
          refine lv_goto (tgt := 2) hx hb dX5_moves_32 (by decide) ?_
          refine lv_iload_n hx hb dX5_moves_2 rfl (lv_at hl 0 rfl) ?_
          refine li_iconst hx hb dX5_moves_3 ?_
          refine li_icmp_ge (tgt := 35) hx hb ⟨by decide, by decide⟩ ⟨by decide, by decide⟩ dX5_moves_4 (by decide) (fun c4 => ?_) (fun c4 => ?_)
          · exact absurd c4 (by decide)
          · refine lv_aload_n hx hb dX5_moves_7 rfl (lv_at hl 1 rfl) ?_
            refine va_get (D := G) (fs := [.int (ii st), .int (ii rp), .int (ii fr), .int (ii to)]) (ci := 10) (v := .int (ii st)) (C := RX11) (T := TX11) (N := 4) hx hb hts in_X11 hown hK hP mi h1_3 rfl 0 (by decide) (hts _ q861) (fun _ h9 => h9) rfl dX5_moves_8 ?_
            refine lv_iload_n hx hb dX5_moves_11 rfl (lv_at hl 0 rfl) ?_
            refine lv_ishr hx hb dX5_moves_12 ?_
            refine li_topx (z := st / 4) (ii_shr2 (by omega) (by omega)) ?_
            refine li_iconst hx hb dX5_moves_13 ?_
            refine lv_iand hx hb dX5_moves_14 ?_
            refine li_topx (z := (st / 4) % 2) (ii_and1 (by omega) (by omega)) ?_
            refine li_iconst hx hb dX5_moves_15 ?_
            refine li_icmp_ne (tgt := 29) hx hb ⟨by omega, by omega⟩ ⟨by decide, by decide⟩ dX5_moves_16 (by decide) (fun c16 => ?_) (fun c16 => ?_)
            · refine li_iinc (a := 2) (lv' := [(2, .int (ii 3)), (0, .ref md), (1, .ref (sd 0))]) hx hb dX5_moves_29 hl (k := 0) rfl (by decide) rfl (fun ls hl => ?_)
              refine lv_goto (tgt := 2) hx hb dX5_moves_32 (by decide) ?_
              refine lv_iload_n hx hb dX5_moves_2 rfl (lv_at hl 0 rfl) ?_
              refine li_iconst hx hb dX5_moves_3 ?_
              refine li_icmp_ge (tgt := 35) hx hb ⟨by decide, by decide⟩ ⟨by decide, by decide⟩ dX5_moves_4 (by decide) (fun c4 => ?_) (fun c4 => ?_)
              · exact eMv hQ hx hb hr hlk hP hD hS (Nat.le_of_ble_eq_true rfl) (Nat.le_of_ble_eq_true rfl) dX5_moves_35 (⟨rfl, by have e : (ug w 1 to) = mvw st to w := (by funext i; simp only [mvw, ug]; omega); rw [hws1_]; (try simp only [List.set_set]); rw [e]⟩)
              · exact absurd c4 (by decide)
            · refine lv_aload_n hx hb dX5_moves_19 rfl (lv_at hl 2 rfl) ?_
              refine va_get (D := G) (fs := [.ref (sd 1), .ref (sd 2)]) (ci := 2) (v := .ref (sd 1)) (C := RX3) (T := TX3) (N := 2) hx hb hts in_X3 hown hK hP (si 0) h1_0 rfl 0 (by decide) (hts _ q655) (fun _ h9 => h9) rfl dX5_moves_20 ?_
              refine lv_iload_n hx hb dX5_moves_23 rfl (lv_at hl 0 rfl) ?_
              refine lv_aload_n hx hb dX5_moves_24 rfl (lv_at hl 1 rfl) ?_
              refine va_get (D := G) (fs := [.int (ii st), .int (ii rp), .int (ii fr), .int (ii to)]) (ci := 10) (v := .int (ii to)) (C := RX11) (T := TX11) (N := 4) hx hb hts in_X11 hown hK hP mi h1_3 rfl 3 (by decide) (hts _ q900) (fun _ h9 => h9) rfl dX5_moves_25 ?_
              refine li_iast (g := ug w 1 to) (W2 := (ws1_.set (si 1) (sd 1, .inl (ty 0, 3, .inl (fa (ug (ug w 1 to) 2 to)))))) hx hb hK hP hD hS (si 1) 0 h1_1 rfl (by decide) (by decide) (by decide) rfl dX5_moves_28 (fun H locs hP hD hS => ?_)
              obtain ⟨ws2_, hws2_⟩ : ∃ z, z = (ws1_.set (si 1) (sd 1, .inl (ty 0, 3, .inl (fa (ug (ug w 1 to) 2 to))))) := ⟨_, rfl⟩
              replace hP : va_P G gcl ws2_ H := by rw [hws2_]; exact hP
              replace hD : va_D A ws2_ := by rw [hws2_]; exact hD
              have h2_0 : ws2_[(si 0)]? = some (sd 0, .inr (2, [.ref (sd 1), .ref (sd 2)])) := by rw [hws2_]; exact gs_n n_si1_si0 h1_0
              have h2_1 : ws2_[(si 1)]? = some (sd 1, .inl (ty 0, 3, .inl (fa (ug (ug w 1 to) 2 to)))) := by rw [hws2_]; exact gs_s h1_1
              have h2_2 : ws2_[(si 2)]? = some (sd 2, .inl (ty 0, 2, .inl (fa q))) := by rw [hws2_]; exact gs_n n_si1_si2 h1_2
              have h2_3 : ws2_[mi]? = some (md, .inr (10, [.int (ii st), .int (ii rp), .int (ii fr), .int (ii to)])) := by rw [hws2_]; exact gs_n n_si1_mi h1_3
              refine li_iinc (a := 2) (lv' := [(2, .int (ii 3)), (0, .ref md), (1, .ref (sd 0))]) hx hb dX5_moves_29 hl (k := 0) rfl (by decide) rfl (fun ls hl => ?_)
              refine lv_goto (tgt := 2) hx hb dX5_moves_32 (by decide) ?_
              refine lv_iload_n hx hb dX5_moves_2 rfl (lv_at hl 0 rfl) ?_
              refine li_iconst hx hb dX5_moves_3 ?_
              refine li_icmp_ge (tgt := 35) hx hb ⟨by decide, by decide⟩ ⟨by decide, by decide⟩ dX5_moves_4 (by decide) (fun c4 => ?_) (fun c4 => ?_)
              · exact eMv hQ hx hb hr hlk hP hD hS (Nat.le_of_ble_eq_true rfl) (Nat.le_of_ble_eq_true rfl) dX5_moves_35 (⟨rfl, by have e : (ug (ug w 1 to) 2 to) = mvw st to w := (by funext i; simp only [mvw, ug]; omega); rw [hws2_, hws1_]; (try simp only [List.set_set]); rw [e]⟩)
              · exact absurd c4 (by decide)
    · refine lv_aload_n hx hb dX5_moves_19 rfl (lv_at hl 2 rfl) ?_
      refine va_get (D := G) (fs := [.ref (sd 1), .ref (sd 2)]) (ci := 2) (v := .ref (sd 1)) (C := RX3) (T := TX3) (N := 2) hx hb hts in_X3 hown hK hP (si 0) hSp.1 rfl 0 (by decide) (hts _ q655) (fun _ h9 => h9) rfl dX5_moves_20 ?_
      refine lv_iload_n hx hb dX5_moves_23 rfl (lv_at hl 0 rfl) ?_
      refine lv_aload_n hx hb dX5_moves_24 rfl (lv_at hl 1 rfl) ?_
      refine va_get (D := G) (fs := [.int (ii st), .int (ii rp), .int (ii fr), .int (ii to)]) (ci := 10) (v := .int (ii to)) (C := RX11) (T := TX11) (N := 4) hx hb hts in_X11 hown hK hP mi hM rfl 3 (by decide) (hts _ q900) (fun _ h9 => h9) rfl dX5_moves_25 ?_
      refine li_iast (g := w) (W2 := (ws.set (si 1) (sd 1, .inl (ty 0, 3, .inl (fa (ug w 0 to)))))) hx hb hK hP hD hS (si 1) 0 hSp.2.1 rfl (by decide) (by decide) (by decide) rfl dX5_moves_28 (fun H locs hP hD hS => ?_)
      obtain ⟨ws1_, hws1_⟩ : ∃ z, z = (ws.set (si 1) (sd 1, .inl (ty 0, 3, .inl (fa (ug w 0 to))))) := ⟨_, rfl⟩
      replace hP : va_P G gcl ws1_ H := by rw [hws1_]; exact hP
      replace hD : va_D A ws1_ := by rw [hws1_]; exact hD
      have h1_0 : ws1_[(si 0)]? = some (sd 0, .inr (2, [.ref (sd 1), .ref (sd 2)])) := by rw [hws1_]; exact gs_n n_si1_si0 hSp.1
      have h1_1 : ws1_[(si 1)]? = some (sd 1, .inl (ty 0, 3, .inl (fa (ug w 0 to)))) := by rw [hws1_]; exact gs_s hSp.2.1
      have h1_2 : ws1_[(si 2)]? = some (sd 2, .inl (ty 0, 2, .inl (fa q))) := by rw [hws1_]; exact gs_n n_si1_si2 hSp.2.2
      have h1_3 : ws1_[mi]? = some (md, .inr (10, [.int (ii st), .int (ii rp), .int (ii fr), .int (ii to)])) := by rw [hws1_]; exact gs_n n_si1_mi hM
      refine li_iinc (a := 0) (lv' := [(2, .int (ii 1)), (0, .ref md), (1, .ref (sd 0))]) hx hb dX5_moves_29 hl (k := 0) rfl (by decide) rfl (fun ls hl => ?_)
      refine lv_goto (tgt := 2) hx hb dX5_moves_32 (by decide) ?_
      refine lv_iload_n hx hb dX5_moves_2 rfl (lv_at hl 0 rfl) ?_
      refine li_iconst hx hb dX5_moves_3 ?_
      refine li_icmp_ge (tgt := 35) hx hb ⟨by decide, by decide⟩ ⟨by decide, by decide⟩ dX5_moves_4 (by decide) (fun c4 => ?_) (fun c4 => ?_)
      · exact absurd c4 (by decide)
      · refine lv_aload_n hx hb dX5_moves_7 rfl (lv_at hl 1 rfl) ?_
        refine va_get (D := G) (fs := [.int (ii st), .int (ii rp), .int (ii fr), .int (ii to)]) (ci := 10) (v := .int (ii st)) (C := RX11) (T := TX11) (N := 4) hx hb hts in_X11 hown hK hP mi h1_3 rfl 0 (by decide) (hts _ q861) (fun _ h9 => h9) rfl dX5_moves_8 ?_
        refine lv_iload_n hx hb dX5_moves_11 rfl (lv_at hl 0 rfl) ?_
        refine lv_ishr hx hb dX5_moves_12 ?_
        refine li_topx (z := st / 2) (ii_shr1 (by omega) (by omega)) ?_
        refine li_iconst hx hb dX5_moves_13 ?_
        refine lv_iand hx hb dX5_moves_14 ?_
        refine li_topx (z := (st / 2) % 2) (ii_and1 (by omega) (by omega)) ?_
        refine li_iconst hx hb dX5_moves_15 ?_
        refine li_icmp_ne (tgt := 29) hx hb ⟨by omega, by omega⟩ ⟨by decide, by decide⟩ dX5_moves_16 (by decide) (fun c16 => ?_) (fun c16 => ?_)
        · refine li_iinc (a := 1) (lv' := [(2, .int (ii 2)), (0, .ref md), (1, .ref (sd 0))]) hx hb dX5_moves_29 hl (k := 0) rfl (by decide) rfl (fun ls hl => ?_)
          refine lv_goto (tgt := 2) hx hb dX5_moves_32 (by decide) ?_
          refine lv_iload_n hx hb dX5_moves_2 rfl (lv_at hl 0 rfl) ?_
          refine li_iconst hx hb dX5_moves_3 ?_
          refine li_icmp_ge (tgt := 35) hx hb ⟨by decide, by decide⟩ ⟨by decide, by decide⟩ dX5_moves_4 (by decide) (fun c4 => ?_) (fun c4 => ?_)
          · exact absurd c4 (by decide)
          · refine lv_aload_n hx hb dX5_moves_7 rfl (lv_at hl 1 rfl) ?_
            refine va_get (D := G) (fs := [.int (ii st), .int (ii rp), .int (ii fr), .int (ii to)]) (ci := 10) (v := .int (ii st)) (C := RX11) (T := TX11) (N := 4) hx hb hts in_X11 hown hK hP mi h1_3 rfl 0 (by decide) (hts _ q861) (fun _ h9 => h9) rfl dX5_moves_8 ?_
            refine lv_iload_n hx hb dX5_moves_11 rfl (lv_at hl 0 rfl) ?_
            refine lv_ishr hx hb dX5_moves_12 ?_
            refine li_topx (z := st / 4) (ii_shr2 (by omega) (by omega)) ?_
            refine li_iconst hx hb dX5_moves_13 ?_
            refine lv_iand hx hb dX5_moves_14 ?_
            refine li_topx (z := (st / 4) % 2) (ii_and1 (by omega) (by omega)) ?_
            refine li_iconst hx hb dX5_moves_15 ?_
            refine li_icmp_ne (tgt := 29) hx hb ⟨by omega, by omega⟩ ⟨by decide, by decide⟩ dX5_moves_16 (by decide) (fun c16 => ?_) (fun c16 => ?_)
            · refine li_iinc (a := 2) (lv' := [(2, .int (ii 3)), (0, .ref md), (1, .ref (sd 0))]) hx hb dX5_moves_29 hl (k := 0) rfl (by decide) rfl (fun ls hl => ?_)
              refine lv_goto (tgt := 2) hx hb dX5_moves_32 (by decide) ?_
              refine lv_iload_n hx hb dX5_moves_2 rfl (lv_at hl 0 rfl) ?_
              refine li_iconst hx hb dX5_moves_3 ?_
              refine li_icmp_ge (tgt := 35) hx hb ⟨by decide, by decide⟩ ⟨by decide, by decide⟩ dX5_moves_4 (by decide) (fun c4 => ?_) (fun c4 => ?_)
              · exact eMv hQ hx hb hr hlk hP hD hS (Nat.le_of_ble_eq_true rfl) (Nat.le_of_ble_eq_true rfl) dX5_moves_35 (⟨rfl, by have e : (ug w 0 to) = mvw st to w := (by funext i; simp only [mvw, ug]; omega); rw [hws1_]; (try simp only [List.set_set]); rw [e]⟩)
              · exact absurd c4 (by decide)
            · refine lv_aload_n hx hb dX5_moves_19 rfl (lv_at hl 2 rfl) ?_
              refine va_get (D := G) (fs := [.ref (sd 1), .ref (sd 2)]) (ci := 2) (v := .ref (sd 1)) (C := RX3) (T := TX3) (N := 2) hx hb hts in_X3 hown hK hP (si 0) h1_0 rfl 0 (by decide) (hts _ q655) (fun _ h9 => h9) rfl dX5_moves_20 ?_
              refine lv_iload_n hx hb dX5_moves_23 rfl (lv_at hl 0 rfl) ?_
              refine lv_aload_n hx hb dX5_moves_24 rfl (lv_at hl 1 rfl) ?_
              refine va_get (D := G) (fs := [.int (ii st), .int (ii rp), .int (ii fr), .int (ii to)]) (ci := 10) (v := .int (ii to)) (C := RX11) (T := TX11) (N := 4) hx hb hts in_X11 hown hK hP mi h1_3 rfl 3 (by decide) (hts _ q900) (fun _ h9 => h9) rfl dX5_moves_25 ?_
              refine li_iast (g := ug w 0 to) (W2 := (ws1_.set (si 1) (sd 1, .inl (ty 0, 3, .inl (fa (ug (ug w 0 to) 2 to)))))) hx hb hK hP hD hS (si 1) 0 h1_1 rfl (by decide) (by decide) (by decide) rfl dX5_moves_28 (fun H locs hP hD hS => ?_)
              obtain ⟨ws2_, hws2_⟩ : ∃ z, z = (ws1_.set (si 1) (sd 1, .inl (ty 0, 3, .inl (fa (ug (ug w 0 to) 2 to))))) := ⟨_, rfl⟩
              replace hP : va_P G gcl ws2_ H := by rw [hws2_]; exact hP
              replace hD : va_D A ws2_ := by rw [hws2_]; exact hD
              have h2_0 : ws2_[(si 0)]? = some (sd 0, .inr (2, [.ref (sd 1), .ref (sd 2)])) := by rw [hws2_]; exact gs_n n_si1_si0 h1_0
              have h2_1 : ws2_[(si 1)]? = some (sd 1, .inl (ty 0, 3, .inl (fa (ug (ug w 0 to) 2 to)))) := by rw [hws2_]; exact gs_s h1_1
              have h2_2 : ws2_[(si 2)]? = some (sd 2, .inl (ty 0, 2, .inl (fa q))) := by rw [hws2_]; exact gs_n n_si1_si2 h1_2
              have h2_3 : ws2_[mi]? = some (md, .inr (10, [.int (ii st), .int (ii rp), .int (ii fr), .int (ii to)])) := by rw [hws2_]; exact gs_n n_si1_mi h1_3
              refine li_iinc (a := 2) (lv' := [(2, .int (ii 3)), (0, .ref md), (1, .ref (sd 0))]) hx hb dX5_moves_29 hl (k := 0) rfl (by decide) rfl (fun ls hl => ?_)
              refine lv_goto (tgt := 2) hx hb dX5_moves_32 (by decide) ?_
              refine lv_iload_n hx hb dX5_moves_2 rfl (lv_at hl 0 rfl) ?_
              refine li_iconst hx hb dX5_moves_3 ?_
              refine li_icmp_ge (tgt := 35) hx hb ⟨by decide, by decide⟩ ⟨by decide, by decide⟩ dX5_moves_4 (by decide) (fun c4 => ?_) (fun c4 => ?_)
              · exact eMv hQ hx hb hr hlk hP hD hS (Nat.le_of_ble_eq_true rfl) (Nat.le_of_ble_eq_true rfl) dX5_moves_35 (⟨rfl, by have e : (ug (ug w 0 to) 2 to) = mvw st to w := (by funext i; simp only [mvw, ug]; omega); rw [hws2_, hws1_]; (try simp only [List.set_set]); rw [e]⟩)
              · exact absurd c4 (by decide)
        · refine lv_aload_n hx hb dX5_moves_19 rfl (lv_at hl 2 rfl) ?_
          refine va_get (D := G) (fs := [.ref (sd 1), .ref (sd 2)]) (ci := 2) (v := .ref (sd 1)) (C := RX3) (T := TX3) (N := 2) hx hb hts in_X3 hown hK hP (si 0) h1_0 rfl 0 (by decide) (hts _ q655) (fun _ h9 => h9) rfl dX5_moves_20 ?_
          refine lv_iload_n hx hb dX5_moves_23 rfl (lv_at hl 0 rfl) ?_
          refine lv_aload_n hx hb dX5_moves_24 rfl (lv_at hl 1 rfl) ?_
          refine va_get (D := G) (fs := [.int (ii st), .int (ii rp), .int (ii fr), .int (ii to)]) (ci := 10) (v := .int (ii to)) (C := RX11) (T := TX11) (N := 4) hx hb hts in_X11 hown hK hP mi h1_3 rfl 3 (by decide) (hts _ q900) (fun _ h9 => h9) rfl dX5_moves_25 ?_
          refine li_iast (g := ug w 0 to) (W2 := (ws1_.set (si 1) (sd 1, .inl (ty 0, 3, .inl (fa (ug (ug w 0 to) 1 to)))))) hx hb hK hP hD hS (si 1) 0 h1_1 rfl (by decide) (by decide) (by decide) rfl dX5_moves_28 (fun H locs hP hD hS => ?_)
          obtain ⟨ws2_, hws2_⟩ : ∃ z, z = (ws1_.set (si 1) (sd 1, .inl (ty 0, 3, .inl (fa (ug (ug w 0 to) 1 to))))) := ⟨_, rfl⟩
          replace hP : va_P G gcl ws2_ H := by rw [hws2_]; exact hP
          replace hD : va_D A ws2_ := by rw [hws2_]; exact hD
          have h2_0 : ws2_[(si 0)]? = some (sd 0, .inr (2, [.ref (sd 1), .ref (sd 2)])) := by rw [hws2_]; exact gs_n n_si1_si0 h1_0
          have h2_1 : ws2_[(si 1)]? = some (sd 1, .inl (ty 0, 3, .inl (fa (ug (ug w 0 to) 1 to)))) := by rw [hws2_]; exact gs_s h1_1
          have h2_2 : ws2_[(si 2)]? = some (sd 2, .inl (ty 0, 2, .inl (fa q))) := by rw [hws2_]; exact gs_n n_si1_si2 h1_2
          have h2_3 : ws2_[mi]? = some (md, .inr (10, [.int (ii st), .int (ii rp), .int (ii fr), .int (ii to)])) := by rw [hws2_]; exact gs_n n_si1_mi h1_3
          refine li_iinc (a := 1) (lv' := [(2, .int (ii 2)), (0, .ref md), (1, .ref (sd 0))]) hx hb dX5_moves_29 hl (k := 0) rfl (by decide) rfl (fun ls hl => ?_)
          refine lv_goto (tgt := 2) hx hb dX5_moves_32 (by decide) ?_
          refine lv_iload_n hx hb dX5_moves_2 rfl (lv_at hl 0 rfl) ?_
          refine li_iconst hx hb dX5_moves_3 ?_
          refine li_icmp_ge (tgt := 35) hx hb ⟨by decide, by decide⟩ ⟨by decide, by decide⟩ dX5_moves_4 (by decide) (fun c4 => ?_) (fun c4 => ?_)
          · exact absurd c4 (by decide)
          · refine lv_aload_n hx hb dX5_moves_7 rfl (lv_at hl 1 rfl) ?_
            refine va_get (D := G) (fs := [.int (ii st), .int (ii rp), .int (ii fr), .int (ii to)]) (ci := 10) (v := .int (ii st)) (C := RX11) (T := TX11) (N := 4) hx hb hts in_X11 hown hK hP mi h2_3 rfl 0 (by decide) (hts _ q861) (fun _ h9 => h9) rfl dX5_moves_8 ?_
            refine lv_iload_n hx hb dX5_moves_11 rfl (lv_at hl 0 rfl) ?_
            refine lv_ishr hx hb dX5_moves_12 ?_
            refine li_topx (z := st / 4) (ii_shr2 (by omega) (by omega)) ?_
            refine li_iconst hx hb dX5_moves_13 ?_
            refine lv_iand hx hb dX5_moves_14 ?_
            refine li_topx (z := (st / 4) % 2) (ii_and1 (by omega) (by omega)) ?_
            refine li_iconst hx hb dX5_moves_15 ?_
            refine li_icmp_ne (tgt := 29) hx hb ⟨by omega, by omega⟩ ⟨by decide, by decide⟩ dX5_moves_16 (by decide) (fun c16 => ?_) (fun c16 => ?_)
            · refine li_iinc (a := 2) (lv' := [(2, .int (ii 3)), (0, .ref md), (1, .ref (sd 0))]) hx hb dX5_moves_29 hl (k := 0) rfl (by decide) rfl (fun ls hl => ?_)
              refine lv_goto (tgt := 2) hx hb dX5_moves_32 (by decide) ?_
              refine lv_iload_n hx hb dX5_moves_2 rfl (lv_at hl 0 rfl) ?_
              refine li_iconst hx hb dX5_moves_3 ?_
              refine li_icmp_ge (tgt := 35) hx hb ⟨by decide, by decide⟩ ⟨by decide, by decide⟩ dX5_moves_4 (by decide) (fun c4 => ?_) (fun c4 => ?_)
              · exact eMv hQ hx hb hr hlk hP hD hS (Nat.le_of_ble_eq_true rfl) (Nat.le_of_ble_eq_true rfl) dX5_moves_35 (⟨rfl, by have e : (ug (ug w 0 to) 1 to) = mvw st to w := (by funext i; simp only [mvw, ug]; omega); rw [hws2_, hws1_]; (try simp only [List.set_set]); rw [e]⟩)
              · exact absurd c4 (by decide)
            · refine lv_aload_n hx hb dX5_moves_19 rfl (lv_at hl 2 rfl) ?_
              refine va_get (D := G) (fs := [.ref (sd 1), .ref (sd 2)]) (ci := 2) (v := .ref (sd 1)) (C := RX3) (T := TX3) (N := 2) hx hb hts in_X3 hown hK hP (si 0) h2_0 rfl 0 (by decide) (hts _ q655) (fun _ h9 => h9) rfl dX5_moves_20 ?_
              refine lv_iload_n hx hb dX5_moves_23 rfl (lv_at hl 0 rfl) ?_
              refine lv_aload_n hx hb dX5_moves_24 rfl (lv_at hl 1 rfl) ?_
              refine va_get (D := G) (fs := [.int (ii st), .int (ii rp), .int (ii fr), .int (ii to)]) (ci := 10) (v := .int (ii to)) (C := RX11) (T := TX11) (N := 4) hx hb hts in_X11 hown hK hP mi h2_3 rfl 3 (by decide) (hts _ q900) (fun _ h9 => h9) rfl dX5_moves_25 ?_
              refine li_iast (g := ug (ug w 0 to) 1 to) (W2 := (ws2_.set (si 1) (sd 1, .inl (ty 0, 3, .inl (fa (ug (ug (ug w 0 to) 1 to) 2 to)))))) hx hb hK hP hD hS (si 1) 0 h2_1 rfl (by decide) (by decide) (by decide) rfl dX5_moves_28 (fun H locs hP hD hS => ?_)
              obtain ⟨ws3_, hws3_⟩ : ∃ z, z = (ws2_.set (si 1) (sd 1, .inl (ty 0, 3, .inl (fa (ug (ug (ug w 0 to) 1 to) 2 to))))) := ⟨_, rfl⟩
              replace hP : va_P G gcl ws3_ H := by rw [hws3_]; exact hP
              replace hD : va_D A ws3_ := by rw [hws3_]; exact hD
              have h3_0 : ws3_[(si 0)]? = some (sd 0, .inr (2, [.ref (sd 1), .ref (sd 2)])) := by rw [hws3_]; exact gs_n n_si1_si0 h2_0
              have h3_1 : ws3_[(si 1)]? = some (sd 1, .inl (ty 0, 3, .inl (fa (ug (ug (ug w 0 to) 1 to) 2 to)))) := by rw [hws3_]; exact gs_s h2_1
              have h3_2 : ws3_[(si 2)]? = some (sd 2, .inl (ty 0, 2, .inl (fa q))) := by rw [hws3_]; exact gs_n n_si1_si2 h2_2
              have h3_3 : ws3_[mi]? = some (md, .inr (10, [.int (ii st), .int (ii rp), .int (ii fr), .int (ii to)])) := by rw [hws3_]; exact gs_n n_si1_mi h2_3
              refine li_iinc (a := 2) (lv' := [(2, .int (ii 3)), (0, .ref md), (1, .ref (sd 0))]) hx hb dX5_moves_29 hl (k := 0) rfl (by decide) rfl (fun ls hl => ?_)
              refine lv_goto (tgt := 2) hx hb dX5_moves_32 (by decide) ?_
              refine lv_iload_n hx hb dX5_moves_2 rfl (lv_at hl 0 rfl) ?_
              refine li_iconst hx hb dX5_moves_3 ?_
              refine li_icmp_ge (tgt := 35) hx hb ⟨by decide, by decide⟩ ⟨by decide, by decide⟩ dX5_moves_4 (by decide) (fun c4 => ?_) (fun c4 => ?_)
              · exact eMv hQ hx hb hr hlk hP hD hS (Nat.le_of_ble_eq_true rfl) (Nat.le_of_ble_eq_true rfl) dX5_moves_35 (⟨rfl, by have e : (ug (ug (ug w 0 to) 1 to) 2 to) = mvw st to w := (by funext i; simp only [mvw, ug]; omega); rw [hws3_, hws2_, hws1_]; (try simp only [List.set_set]); rw [e]⟩)
              · exact absurd c4 (by decide)
set_option maxHeartbeats 4000000 in
theorem m_does0_11 (l : Launch) (G : va_G) (ty : Nat → ClassId) (ws : va_W) (si sd : Nat → Nat) (w q : Int → Int) (mi md : Nat) (st rp fr to : Int)  (hSp : spotAt ty ws si sd w q) (hM : moveAt ws 10 mi md st rp fr to) (hm : 0 ≤ st ∧ st ≤ 7 ∧ 0 ≤ rp ∧ rp ≤ 1 ∧ 0 ≤ fr ∧ fr ≤ 4 ∧ 0 ≤ to ∧ to ≤ 4) (n_si1_si0 : (si 1) ≠ (si 0)) (n_si1_si2 : (si 1) ≠ (si 2)) (n_si1_mi : (si 1) ≠ mi) : cM l yX5_does (ws_ yX5_does cX5_does 2 none) (rm4 1 0 0 22) G ty (ws) [.ref md, .ref (sd 0)] 0 0 (fun r W' => r = none ∧ W' = ws.set (si 1) (sd 1, .inl (ty 0, 3, .inl (fa (mvw st to w))))) := by
  refine cM.of (by decide) (Nat.le_of_ble_eq_true rfl) ?_
  intro p e s m args below meth c A Q H locs hQ hx hb hr hml hown hlk hname hts hK hP hD hS hA hX ls hl
  have hl : lv_has ls 2 [(0, .ref md), (1, .ref (sd 0))] := hl
  refine lv_aload_n hx hb dX5_does_0 rfl (lv_at hl 0 rfl) ?_
  refine lv_aload_n hx hb dX5_does_1 rfl (lv_at hl 1 rfl) ?_
  refine kM (va_runU (x := yX5_moves) (As := [.ref (sd 0)]) (rest := []) ⟨hx, hb, hml, hown, hts⟩ ((m_moves_11 l G ty ws si sd w q mi md st rp fr to hSp hM hm n_si1_si0 n_si1_si2 n_si1_mi) H.size) (va_cwU (own := "DownRope$Move") (index := 57) (C := "DownRope$Throw") (owner := "DownRope$Move") (x := yX5_moves) (y := yX5_moves) 1 hts (lw_app (lw_in _ [515, 518, 524, 516, 80] (by decide +kernel) (by decide +kernel)) (lw_meth q525)) rfl rfl rfl rfl (by decide +kernel) ⟨Nat.le_of_ble_eq_true rfl, Nat.le_of_ble_eq_true rfl⟩) (pvM (r := (RX11, TX11, 4)) hK hP hD hX mi hM rfl) rfl rfl hl.1 rfl (lv_room (Nat.le_of_ble_eq_true rfl)) dX5_does_2 ⟨Nat.le_of_ble_eq_true rfl, Nat.le_of_ble_eq_true rfl⟩) hD hS hA (fun v ws1 H locs hv hP hD hS => ?_)
  obtain ⟨rfl, rfl⟩ := hv
  obtain ⟨ws1_, hws1_⟩ : ∃ z, z = (ws.set (si 1) (sd 1, .inl (ty 0, 3, .inl (fa (mvw st to w))))) := ⟨_, rfl⟩
  replace hP : va_P G gcl ws1_ H := by rw [hws1_]; exact hP
  replace hD : va_D A ws1_ := by rw [hws1_]; exact hD
  have h1_0 : ws1_[(si 0)]? = some (sd 0, .inr (2, [.ref (sd 1), .ref (sd 2)])) := by rw [hws1_]; exact gs_n n_si1_si0 hSp.1
  have h1_1 : ws1_[(si 1)]? = some (sd 1, .inl (ty 0, 3, .inl (fa (mvw st to w)))) := by rw [hws1_]; exact gs_s hSp.2.1
  have h1_2 : ws1_[(si 2)]? = some (sd 2, .inl (ty 0, 2, .inl (fa q))) := by rw [hws1_]; exact gs_n n_si1_si2 hSp.2.2
  have h1_3 : ws1_[mi]? = some (md, .inr (10, [.int (ii st), .int (ii rp), .int (ii fr), .int (ii to)])) := by rw [hws1_]; exact gs_n n_si1_mi hM
  exact eMv hQ hx hb hr hlk hP hD hS (Nat.le_of_ble_eq_true rfl) (Nat.le_of_ble_eq_true rfl) dX5_does_5 (⟨rfl, by rw [hws1_]⟩)
set_option maxHeartbeats 4000000 in
theorem m_doesD_6 (l : Launch) (G : va_G) (ty : Nat → ClassId) (ws : va_W) (si sd : Nat → Nat) (w q : Int → Int) (mi md : Nat) (st rp fr to : Int)  (hSp : spotAt ty ws si sd w q) (hM : moveAt ws 5 mi md st rp fr to) (hm : 0 ≤ st ∧ st ≤ 7 ∧ 0 ≤ rp ∧ rp ≤ 1 ∧ 0 ≤ fr ∧ fr ≤ 4 ∧ 0 ≤ to ∧ to ≤ 4) (n_si1_si0 : (si 1) ≠ (si 0)) (n_si1_si2 : (si 1) ≠ (si 2)) (n_si1_mi : (si 1) ≠ mi) (n_si2_si0 : (si 2) ≠ (si 0)) (n_si2_si1 : (si 2) ≠ (si 1)) (n_si2_mi : (si 2) ≠ mi) : cM l yX6_does (ws_ yX6_does cX6_does 2 none) (rm4 2 0 0 43) G ty (ws) [.ref md, .ref (sd 0)] 0 0 (fun r W' => r = none ∧ W' = (ws.set (si 1) (sd 1, .inl (ty 0, 3, .inl (fa (mvw st to w))))).set (si 2) (sd 2, .inl (ty 0, 2, .inl (fa (ug q rp to))))) := by
  refine cM.of (by decide) (Nat.le_of_ble_eq_true rfl) ?_
  intro p e s m args below meth c A Q H locs hQ hx hb hr hml hown hlk hname hts hK hP hD hS hA hX ls hl
  have hl : lv_has ls 2 [(0, .ref md), (1, .ref (sd 0))] := hl
  obtain ⟨hm0, hm1, hm2, hm3, hm4, hm5, hm6, hm7⟩ := id hm
  refine lv_aload_n hx hb dX6_does_0 rfl (lv_at hl 0 rfl) ?_
  refine lv_aload_n hx hb dX6_does_1 rfl (lv_at hl 1 rfl) ?_
  refine kM (va_runSU (hK.1 5 _ rfl).2 (As := [.ref (sd 0)]) (rest := []) ⟨hx, hb, hml, hown, hts⟩ ((m_does0_6 l G ty ws si sd w q mi md st rp fr to hSp hM hm n_si1_si0 n_si1_si2 n_si1_mi) H.size) (va_cwSU 1 hts (lw_app (lw_in _ [512, 507, 513, 505, 80] (by decide +kernel) (by decide +kernel)) (lw_meth q514)) rfl rfl rfl (by decide +kernel) ⟨Nat.le_of_ble_eq_true rfl, Nat.le_of_ble_eq_true rfl⟩) (pvM (r := (RX6, TX6, 4)) hK hP hD hX mi hM rfl) rfl rfl hl.1 rfl (lv_room (Nat.le_of_ble_eq_true rfl)) dX6_does_2 ⟨Nat.le_of_ble_eq_true rfl, Nat.le_of_ble_eq_true rfl⟩) hD hS hA (fun v ws1 H locs hv hP hD hS => ?_)
  obtain ⟨rfl, rfl⟩ := hv
  obtain ⟨ws1_, hws1_⟩ : ∃ z, z = (ws.set (si 1) (sd 1, .inl (ty 0, 3, .inl (fa (mvw st to w))))) := ⟨_, rfl⟩
  replace hP : va_P G gcl ws1_ H := by rw [hws1_]; exact hP
  replace hD : va_D A ws1_ := by rw [hws1_]; exact hD
  have h1_0 : ws1_[(si 0)]? = some (sd 0, .inr (2, [.ref (sd 1), .ref (sd 2)])) := by rw [hws1_]; exact gs_n n_si1_si0 hSp.1
  have h1_1 : ws1_[(si 1)]? = some (sd 1, .inl (ty 0, 3, .inl (fa (mvw st to w)))) := by rw [hws1_]; exact gs_s hSp.2.1
  have h1_2 : ws1_[(si 2)]? = some (sd 2, .inl (ty 0, 2, .inl (fa q))) := by rw [hws1_]; exact gs_n n_si1_si2 hSp.2.2
  have h1_3 : ws1_[mi]? = some (md, .inr (5, [.int (ii st), .int (ii rp), .int (ii fr), .int (ii to)])) := by rw [hws1_]; exact gs_n n_si1_mi hM
  refine lv_aload_n hx hb dX6_does_5 rfl (lv_at hl 1 rfl) ?_
  refine va_get (D := G) (fs := [.ref (sd 1), .ref (sd 2)]) (ci := 2) (v := .ref (sd 2)) (C := RX3) (T := TX3) (N := 2) hx hb hts in_X3 hown hK hP (si 0) h1_0 rfl 1 (by decide) (hts _ q662) (fun _ h9 => h9) rfl dX6_does_6 ?_
  refine lv_aload_n hx hb dX6_does_9 rfl (lv_at hl 0 rfl) ?_
  refine va_get (D := G) (fs := [.int (ii st), .int (ii rp), .int (ii fr), .int (ii to)]) (ci := 5) (v := .int (ii rp)) (C := RX6) (T := TX6) (N := 4) hx hb hts in_X6 hown hK hP mi h1_3 rfl 1 (by decide) (hts _ q872) (fun x h9 => sf_X6_rope hts x h9) rfl dX6_does_10 ?_
  refine lv_aload_n hx hb dX6_does_13 rfl (lv_at hl 0 rfl) ?_
  refine va_get (D := G) (fs := [.int (ii st), .int (ii rp), .int (ii fr), .int (ii to)]) (ci := 5) (v := .int (ii to)) (C := RX6) (T := TX6) (N := 4) hx hb hts in_X6 hown hK hP mi h1_3 rfl 3 (by decide) (hts _ q903) (fun x h9 => sf_X6_to hts x h9) rfl dX6_does_14 ?_
  refine li_iast (g := q) (W2 := (ws1_.set (si 2) (sd 2, .inl (ty 0, 2, .inl (fa (ug q rp to)))))) hx hb hK hP hD hS (si 2) 0 h1_2 rfl (by omega) (by omega) (by decide) rfl dX6_does_17 (fun H locs hP hD hS => ?_)
  obtain ⟨ws2_, hws2_⟩ : ∃ z, z = (ws1_.set (si 2) (sd 2, .inl (ty 0, 2, .inl (fa (ug q rp to))))) := ⟨_, rfl⟩
  replace hP : va_P G gcl ws2_ H := by rw [hws2_]; exact hP
  replace hD : va_D A ws2_ := by rw [hws2_]; exact hD
  have h2_0 : ws2_[(si 0)]? = some (sd 0, .inr (2, [.ref (sd 1), .ref (sd 2)])) := by rw [hws2_]; exact gs_n n_si2_si0 h1_0
  have h2_1 : ws2_[(si 1)]? = some (sd 1, .inl (ty 0, 3, .inl (fa (mvw st to w)))) := by rw [hws2_]; exact gs_n n_si2_si1 h1_1
  have h2_2 : ws2_[(si 2)]? = some (sd 2, .inl (ty 0, 2, .inl (fa (ug q rp to)))) := by rw [hws2_]; exact gs_s h1_2
  have h2_3 : ws2_[mi]? = some (md, .inr (5, [.int (ii st), .int (ii rp), .int (ii fr), .int (ii to)])) := by rw [hws2_]; exact gs_n n_si2_mi h1_3
  exact eMv hQ hx hb hr hlk hP hD hS (Nat.le_of_ble_eq_true rfl) (Nat.le_of_ble_eq_true rfl) dX6_does_18 (⟨rfl, by rw [hws2_, hws1_]; (try simp only [List.set_set])⟩)
set_option maxHeartbeats 4000000 in
theorem m_doesD_8 (l : Launch) (G : va_G) (ty : Nat → ClassId) (ws : va_W) (si sd : Nat → Nat) (w q : Int → Int) (mi md : Nat) (st rp fr to : Int)  (hSp : spotAt ty ws si sd w q) (hM : moveAt ws 7 mi md st rp fr to) (hm : 0 ≤ st ∧ st ≤ 7 ∧ 0 ≤ rp ∧ rp ≤ 1 ∧ 0 ≤ fr ∧ fr ≤ 4 ∧ 0 ≤ to ∧ to ≤ 4) (n_si1_si0 : (si 1) ≠ (si 0)) (n_si1_si2 : (si 1) ≠ (si 2)) (n_si1_mi : (si 1) ≠ mi) (n_si2_si0 : (si 2) ≠ (si 0)) (n_si2_si1 : (si 2) ≠ (si 1)) (n_si2_mi : (si 2) ≠ mi) : cM l yX6_does (ws_ yX6_does cX6_does 2 none) (rm4 2 0 0 43) G ty (ws) [.ref md, .ref (sd 0)] 0 0 (fun r W' => r = none ∧ W' = (ws.set (si 1) (sd 1, .inl (ty 0, 3, .inl (fa (mvw st to w))))).set (si 2) (sd 2, .inl (ty 0, 2, .inl (fa (ug q rp to))))) := by
  refine cM.of (by decide) (Nat.le_of_ble_eq_true rfl) ?_
  intro p e s m args below meth c A Q H locs hQ hx hb hr hml hown hlk hname hts hK hP hD hS hA hX ls hl
  have hl : lv_has ls 2 [(0, .ref md), (1, .ref (sd 0))] := hl
  obtain ⟨hm0, hm1, hm2, hm3, hm4, hm5, hm6, hm7⟩ := id hm
  refine lv_aload_n hx hb dX6_does_0 rfl (lv_at hl 0 rfl) ?_
  refine lv_aload_n hx hb dX6_does_1 rfl (lv_at hl 1 rfl) ?_
  refine kM (va_runSU (hK.1 7 _ rfl).2 (As := [.ref (sd 0)]) (rest := []) ⟨hx, hb, hml, hown, hts⟩ ((m_does0_8 l G ty ws si sd w q mi md st rp fr to hSp hM hm n_si1_si0 n_si1_si2 n_si1_mi) H.size) (va_cwSU 1 hts (lw_app (lw_in _ [512, 507, 513, 505, 80] (by decide +kernel) (by decide +kernel)) (lw_meth q514)) rfl rfl rfl (by decide +kernel) ⟨Nat.le_of_ble_eq_true rfl, Nat.le_of_ble_eq_true rfl⟩) (pvM (r := (RX8, TX8, 4)) hK hP hD hX mi hM rfl) rfl rfl hl.1 rfl (lv_room (Nat.le_of_ble_eq_true rfl)) dX6_does_2 ⟨Nat.le_of_ble_eq_true rfl, Nat.le_of_ble_eq_true rfl⟩) hD hS hA (fun v ws1 H locs hv hP hD hS => ?_)
  obtain ⟨rfl, rfl⟩ := hv
  obtain ⟨ws1_, hws1_⟩ : ∃ z, z = (ws.set (si 1) (sd 1, .inl (ty 0, 3, .inl (fa (mvw st to w))))) := ⟨_, rfl⟩
  replace hP : va_P G gcl ws1_ H := by rw [hws1_]; exact hP
  replace hD : va_D A ws1_ := by rw [hws1_]; exact hD
  have h1_0 : ws1_[(si 0)]? = some (sd 0, .inr (2, [.ref (sd 1), .ref (sd 2)])) := by rw [hws1_]; exact gs_n n_si1_si0 hSp.1
  have h1_1 : ws1_[(si 1)]? = some (sd 1, .inl (ty 0, 3, .inl (fa (mvw st to w)))) := by rw [hws1_]; exact gs_s hSp.2.1
  have h1_2 : ws1_[(si 2)]? = some (sd 2, .inl (ty 0, 2, .inl (fa q))) := by rw [hws1_]; exact gs_n n_si1_si2 hSp.2.2
  have h1_3 : ws1_[mi]? = some (md, .inr (7, [.int (ii st), .int (ii rp), .int (ii fr), .int (ii to)])) := by rw [hws1_]; exact gs_n n_si1_mi hM
  refine lv_aload_n hx hb dX6_does_5 rfl (lv_at hl 1 rfl) ?_
  refine va_get (D := G) (fs := [.ref (sd 1), .ref (sd 2)]) (ci := 2) (v := .ref (sd 2)) (C := RX3) (T := TX3) (N := 2) hx hb hts in_X3 hown hK hP (si 0) h1_0 rfl 1 (by decide) (hts _ q662) (fun _ h9 => h9) rfl dX6_does_6 ?_
  refine lv_aload_n hx hb dX6_does_9 rfl (lv_at hl 0 rfl) ?_
  refine va_get (D := G) (fs := [.int (ii st), .int (ii rp), .int (ii fr), .int (ii to)]) (ci := 7) (v := .int (ii rp)) (C := RX8) (T := TX8) (N := 4) hx hb hts in_X8 hown hK hP mi h1_3 rfl 1 (by decide) (hts _ q872) (fun x h9 => sf_X6_rope hts x h9) rfl dX6_does_10 ?_
  refine lv_aload_n hx hb dX6_does_13 rfl (lv_at hl 0 rfl) ?_
  refine va_get (D := G) (fs := [.int (ii st), .int (ii rp), .int (ii fr), .int (ii to)]) (ci := 7) (v := .int (ii to)) (C := RX8) (T := TX8) (N := 4) hx hb hts in_X8 hown hK hP mi h1_3 rfl 3 (by decide) (hts _ q903) (fun x h9 => sf_X6_to hts x h9) rfl dX6_does_14 ?_
  refine li_iast (g := q) (W2 := (ws1_.set (si 2) (sd 2, .inl (ty 0, 2, .inl (fa (ug q rp to)))))) hx hb hK hP hD hS (si 2) 0 h1_2 rfl (by omega) (by omega) (by decide) rfl dX6_does_17 (fun H locs hP hD hS => ?_)
  obtain ⟨ws2_, hws2_⟩ : ∃ z, z = (ws1_.set (si 2) (sd 2, .inl (ty 0, 2, .inl (fa (ug q rp to))))) := ⟨_, rfl⟩
  replace hP : va_P G gcl ws2_ H := by rw [hws2_]; exact hP
  replace hD : va_D A ws2_ := by rw [hws2_]; exact hD
  have h2_0 : ws2_[(si 0)]? = some (sd 0, .inr (2, [.ref (sd 1), .ref (sd 2)])) := by rw [hws2_]; exact gs_n n_si2_si0 h1_0
  have h2_1 : ws2_[(si 1)]? = some (sd 1, .inl (ty 0, 3, .inl (fa (mvw st to w)))) := by rw [hws2_]; exact gs_n n_si2_si1 h1_1
  have h2_2 : ws2_[(si 2)]? = some (sd 2, .inl (ty 0, 2, .inl (fa (ug q rp to)))) := by rw [hws2_]; exact gs_s h1_2
  have h2_3 : ws2_[mi]? = some (md, .inr (7, [.int (ii st), .int (ii rp), .int (ii fr), .int (ii to)])) := by rw [hws2_]; exact gs_n n_si2_mi h1_3
  exact eMv hQ hx hb hr hlk hP hD hS (Nat.le_of_ble_eq_true rfl) (Nat.le_of_ble_eq_true rfl) dX6_does_18 (⟨rfl, by rw [hws2_, hws1_]; (try simp only [List.set_set])⟩)
set_option maxHeartbeats 4000000 in
theorem m_doesS_7 (l : Launch) (G : va_G) (ty : Nat → ClassId) (ws : va_W) (si sd : Nat → Nat) (w q : Int → Int) (mi md : Nat) (st rp fr to : Int)  (hSp : spotAt ty ws si sd w q) (hM : moveAt ws 6 mi md st rp fr to) (hm : 0 ≤ st ∧ st ≤ 7 ∧ 0 ≤ rp ∧ rp ≤ 1 ∧ 0 ≤ fr ∧ fr ≤ 4 ∧ 0 ≤ to ∧ to ≤ 4) (n_si1_si0 : (si 1) ≠ (si 0)) (n_si1_si2 : (si 1) ≠ (si 2)) (n_si1_mi : (si 1) ≠ mi) (n_si2_si0 : (si 2) ≠ (si 0)) (n_si2_si1 : (si 2) ≠ (si 1)) (n_si2_mi : (si 2) ≠ mi) : cM l yX7_does (ws_ yX7_does cX7_does 2 none) (rm4 2 0 0 43) G ty (ws) [.ref md, .ref (sd 0)] 0 0 (fun r W' => r = none ∧ W' = (ws.set (si 1) (sd 1, .inl (ty 0, 3, .inl (fa (mvw st to w))))).set (si 2) (sd 2, .inl (ty 0, 2, .inl (fa (ug q rp 5))))) := by
  refine cM.of (by decide) (Nat.le_of_ble_eq_true rfl) ?_
  intro p e s m args below meth c A Q H locs hQ hx hb hr hml hown hlk hname hts hK hP hD hS hA hX ls hl
  have hl : lv_has ls 2 [(0, .ref md), (1, .ref (sd 0))] := hl
  obtain ⟨hm0, hm1, hm2, hm3, hm4, hm5, hm6, hm7⟩ := id hm
  refine lv_aload_n hx hb dX7_does_0 rfl (lv_at hl 0 rfl) ?_
  refine lv_aload_n hx hb dX7_does_1 rfl (lv_at hl 1 rfl) ?_
  refine kM (va_runSU (hK.1 6 _ rfl).2 (As := [.ref (sd 0)]) (rest := []) ⟨hx, hb, hml, hown, hts⟩ ((m_does0_7 l G ty ws si sd w q mi md st rp fr to hSp hM hm n_si1_si0 n_si1_si2 n_si1_mi) H.size) (va_cwSU 1 hts (lw_app (lw_in _ [534, 507, 535, 505, 80] (by decide +kernel) (by decide +kernel)) (lw_meth q514)) rfl rfl rfl (by decide +kernel) ⟨Nat.le_of_ble_eq_true rfl, Nat.le_of_ble_eq_true rfl⟩) (pvM (r := (RX7, TX7, 4)) hK hP hD hX mi hM rfl) rfl rfl hl.1 rfl (lv_room (Nat.le_of_ble_eq_true rfl)) dX7_does_2 ⟨Nat.le_of_ble_eq_true rfl, Nat.le_of_ble_eq_true rfl⟩) hD hS hA (fun v ws1 H locs hv hP hD hS => ?_)
  obtain ⟨rfl, rfl⟩ := hv
  obtain ⟨ws1_, hws1_⟩ : ∃ z, z = (ws.set (si 1) (sd 1, .inl (ty 0, 3, .inl (fa (mvw st to w))))) := ⟨_, rfl⟩
  replace hP : va_P G gcl ws1_ H := by rw [hws1_]; exact hP
  replace hD : va_D A ws1_ := by rw [hws1_]; exact hD
  have h1_0 : ws1_[(si 0)]? = some (sd 0, .inr (2, [.ref (sd 1), .ref (sd 2)])) := by rw [hws1_]; exact gs_n n_si1_si0 hSp.1
  have h1_1 : ws1_[(si 1)]? = some (sd 1, .inl (ty 0, 3, .inl (fa (mvw st to w)))) := by rw [hws1_]; exact gs_s hSp.2.1
  have h1_2 : ws1_[(si 2)]? = some (sd 2, .inl (ty 0, 2, .inl (fa q))) := by rw [hws1_]; exact gs_n n_si1_si2 hSp.2.2
  have h1_3 : ws1_[mi]? = some (md, .inr (6, [.int (ii st), .int (ii rp), .int (ii fr), .int (ii to)])) := by rw [hws1_]; exact gs_n n_si1_mi hM
  refine lv_aload_n hx hb dX7_does_5 rfl (lv_at hl 1 rfl) ?_
  refine va_get (D := G) (fs := [.ref (sd 1), .ref (sd 2)]) (ci := 2) (v := .ref (sd 2)) (C := RX3) (T := TX3) (N := 2) hx hb hts in_X3 hown hK hP (si 0) h1_0 rfl 1 (by decide) (hts _ q659) (fun _ h9 => h9) rfl dX7_does_6 ?_
  refine lv_aload_n hx hb dX7_does_9 rfl (lv_at hl 0 rfl) ?_
  refine va_get (D := G) (fs := [.int (ii st), .int (ii rp), .int (ii fr), .int (ii to)]) (ci := 6) (v := .int (ii rp)) (C := RX7) (T := TX7) (N := 4) hx hb hts in_X7 hown hK hP mi h1_3 rfl 1 (by decide) (hts _ q877) (fun x h9 => sf_X7_rope hts x h9) rfl dX7_does_10 ?_
  refine li_iconst hx hb dX7_does_13 ?_
  refine li_iast (g := q) (W2 := (ws1_.set (si 2) (sd 2, .inl (ty 0, 2, .inl (fa (ug q rp 5)))))) hx hb hK hP hD hS (si 2) 0 h1_2 rfl (by omega) (by omega) (by decide) rfl dX7_does_14 (fun H locs hP hD hS => ?_)
  obtain ⟨ws2_, hws2_⟩ : ∃ z, z = (ws1_.set (si 2) (sd 2, .inl (ty 0, 2, .inl (fa (ug q rp 5))))) := ⟨_, rfl⟩
  replace hP : va_P G gcl ws2_ H := by rw [hws2_]; exact hP
  replace hD : va_D A ws2_ := by rw [hws2_]; exact hD
  have h2_0 : ws2_[(si 0)]? = some (sd 0, .inr (2, [.ref (sd 1), .ref (sd 2)])) := by rw [hws2_]; exact gs_n n_si2_si0 h1_0
  have h2_1 : ws2_[(si 1)]? = some (sd 1, .inl (ty 0, 3, .inl (fa (mvw st to w)))) := by rw [hws2_]; exact gs_n n_si2_si1 h1_1
  have h2_2 : ws2_[(si 2)]? = some (sd 2, .inl (ty 0, 2, .inl (fa (ug q rp 5)))) := by rw [hws2_]; exact gs_s h1_2
  have h2_3 : ws2_[mi]? = some (md, .inr (6, [.int (ii st), .int (ii rp), .int (ii fr), .int (ii to)])) := by rw [hws2_]; exact gs_n n_si2_mi h1_3
  exact eMv hQ hx hb hr hlk hP hD hS (Nat.le_of_ble_eq_true rfl) (Nat.le_of_ble_eq_true rfl) dX7_does_15 (⟨rfl, by rw [hws2_, hws1_]; (try simp only [List.set_set])⟩)
set_option maxHeartbeats 4000000 in
theorem m_doesT_11 (l : Launch) (G : va_G) (ty : Nat → ClassId) (ws : va_W) (si sd : Nat → Nat) (w q : Int → Int) (mi md : Nat) (st rp fr to : Int)  (hSp : spotAt ty ws si sd w q) (hM : moveAt ws 10 mi md st rp fr to) (hm : 0 ≤ st ∧ st ≤ 7 ∧ 0 ≤ rp ∧ rp ≤ 1 ∧ 0 ≤ fr ∧ fr ≤ 4 ∧ 0 ≤ to ∧ to ≤ 4) (n_si1_si0 : (si 1) ≠ (si 0)) (n_si1_si2 : (si 1) ≠ (si 2)) (n_si1_mi : (si 1) ≠ mi) (n_si2_si0 : (si 2) ≠ (si 0)) (n_si2_si1 : (si 2) ≠ (si 1)) (n_si2_mi : (si 2) ≠ mi) : cM l yX11_does (ws_ yX11_does cX11_does 2 none) (rm4 2 0 0 43) G ty (ws) [.ref md, .ref (sd 0)] 0 0 (fun r W' => r = none ∧ W' = (ws.set (si 1) (sd 1, .inl (ty 0, 3, .inl (fa (mvw st to w))))).set (si 2) (sd 2, .inl (ty 0, 2, .inl (fa (ug q rp to))))) := by
  refine cM.of (by decide) (Nat.le_of_ble_eq_true rfl) ?_
  intro p e s m args below meth c A Q H locs hQ hx hb hr hml hown hlk hname hts hK hP hD hS hA hX ls hl
  have hl : lv_has ls 2 [(0, .ref md), (1, .ref (sd 0))] := hl
  obtain ⟨hm0, hm1, hm2, hm3, hm4, hm5, hm6, hm7⟩ := id hm
  refine lv_aload_n hx hb dX11_does_0 rfl (lv_at hl 0 rfl) ?_
  refine lv_aload_n hx hb dX11_does_1 rfl (lv_at hl 1 rfl) ?_
  refine kM (va_runSU (hK.1 10 _ rfl).2 (As := [.ref (sd 0)]) (rest := []) ⟨hx, hb, hml, hown, hts⟩ ((m_does0_11 l G ty ws si sd w q mi md st rp fr to hSp hM hm n_si1_si0 n_si1_si2 n_si1_mi) H.size) (va_cwSU 1 hts (lw_app (lw_in _ [539, 507, 540, 505, 80] (by decide +kernel) (by decide +kernel)) (lw_meth q514)) rfl rfl rfl (by decide +kernel) ⟨Nat.le_of_ble_eq_true rfl, Nat.le_of_ble_eq_true rfl⟩) (pvM (r := (RX11, TX11, 4)) hK hP hD hX mi hM rfl) rfl rfl hl.1 rfl (lv_room (Nat.le_of_ble_eq_true rfl)) dX11_does_2 ⟨Nat.le_of_ble_eq_true rfl, Nat.le_of_ble_eq_true rfl⟩) hD hS hA (fun v ws1 H locs hv hP hD hS => ?_)
  obtain ⟨rfl, rfl⟩ := hv
  obtain ⟨ws1_, hws1_⟩ : ∃ z, z = (ws.set (si 1) (sd 1, .inl (ty 0, 3, .inl (fa (mvw st to w))))) := ⟨_, rfl⟩
  replace hP : va_P G gcl ws1_ H := by rw [hws1_]; exact hP
  replace hD : va_D A ws1_ := by rw [hws1_]; exact hD
  have h1_0 : ws1_[(si 0)]? = some (sd 0, .inr (2, [.ref (sd 1), .ref (sd 2)])) := by rw [hws1_]; exact gs_n n_si1_si0 hSp.1
  have h1_1 : ws1_[(si 1)]? = some (sd 1, .inl (ty 0, 3, .inl (fa (mvw st to w)))) := by rw [hws1_]; exact gs_s hSp.2.1
  have h1_2 : ws1_[(si 2)]? = some (sd 2, .inl (ty 0, 2, .inl (fa q))) := by rw [hws1_]; exact gs_n n_si1_si2 hSp.2.2
  have h1_3 : ws1_[mi]? = some (md, .inr (10, [.int (ii st), .int (ii rp), .int (ii fr), .int (ii to)])) := by rw [hws1_]; exact gs_n n_si1_mi hM
  refine lv_aload_n hx hb dX11_does_5 rfl (lv_at hl 1 rfl) ?_
  refine va_get (D := G) (fs := [.ref (sd 1), .ref (sd 2)]) (ci := 2) (v := .ref (sd 2)) (C := RX3) (T := TX3) (N := 2) hx hb hts in_X3 hown hK hP (si 0) h1_0 rfl 1 (by decide) (hts _ q660) (fun _ h9 => h9) rfl dX11_does_6 ?_
  refine lv_aload_n hx hb dX11_does_9 rfl (lv_at hl 0 rfl) ?_
  refine va_get (D := G) (fs := [.int (ii st), .int (ii rp), .int (ii fr), .int (ii to)]) (ci := 10) (v := .int (ii rp)) (C := RX11) (T := TX11) (N := 4) hx hb hts in_X11 hown hK hP mi h1_3 rfl 1 (by decide) (hts _ q875) (fun x h9 => sf_X11_rope hts x h9) rfl dX11_does_10 ?_
  refine lv_aload_n hx hb dX11_does_13 rfl (lv_at hl 0 rfl) ?_
  refine va_get (D := G) (fs := [.int (ii st), .int (ii rp), .int (ii fr), .int (ii to)]) (ci := 10) (v := .int (ii to)) (C := RX11) (T := TX11) (N := 4) hx hb hts in_X11 hown hK hP mi h1_3 rfl 3 (by decide) (hts _ q898) (fun x h9 => sf_X11_to hts x h9) rfl dX11_does_14 ?_
  refine li_iast (g := q) (W2 := (ws1_.set (si 2) (sd 2, .inl (ty 0, 2, .inl (fa (ug q rp to)))))) hx hb hK hP hD hS (si 2) 0 h1_2 rfl (by omega) (by omega) (by decide) rfl dX11_does_17 (fun H locs hP hD hS => ?_)
  obtain ⟨ws2_, hws2_⟩ : ∃ z, z = (ws1_.set (si 2) (sd 2, .inl (ty 0, 2, .inl (fa (ug q rp to))))) := ⟨_, rfl⟩
  replace hP : va_P G gcl ws2_ H := by rw [hws2_]; exact hP
  replace hD : va_D A ws2_ := by rw [hws2_]; exact hD
  have h2_0 : ws2_[(si 0)]? = some (sd 0, .inr (2, [.ref (sd 1), .ref (sd 2)])) := by rw [hws2_]; exact gs_n n_si2_si0 h1_0
  have h2_1 : ws2_[(si 1)]? = some (sd 1, .inl (ty 0, 3, .inl (fa (mvw st to w)))) := by rw [hws2_]; exact gs_n n_si2_si1 h1_1
  have h2_2 : ws2_[(si 2)]? = some (sd 2, .inl (ty 0, 2, .inl (fa (ug q rp to)))) := by rw [hws2_]; exact gs_s h1_2
  have h2_3 : ws2_[mi]? = some (md, .inr (10, [.int (ii st), .int (ii rp), .int (ii fr), .int (ii to)])) := by rw [hws2_]; exact gs_n n_si2_mi h1_3
  exact eMv hQ hx hb hr hlk hP hD hS (Nat.le_of_ble_eq_true rfl) (Nat.le_of_ble_eq_true rfl) dX11_does_18 (⟨rfl, by rw [hws2_, hws1_]; (try simp only [List.set_set])⟩)
set_option maxHeartbeats 4000000 in
theorem m_doesJ_8 (l : Launch) (G : va_G) (ty : Nat → ClassId) (ws : va_W) (si sd : Nat → Nat) (w q : Int → Int) (mi md : Nat) (st rp fr to : Int)  (hSp : spotAt ty ws si sd w q) (hM : moveAt ws 7 mi md st rp fr to) (hm : 0 ≤ st ∧ st ≤ 7 ∧ 0 ≤ rp ∧ rp ≤ 1 ∧ 0 ≤ fr ∧ fr ≤ 4 ∧ 0 ≤ to ∧ to ≤ 4) (n_si1_si0 : (si 1) ≠ (si 0)) (n_si1_si2 : (si 1) ≠ (si 2)) (n_si1_mi : (si 1) ≠ mi) (n_si2_si0 : (si 2) ≠ (si 0)) (n_si2_si1 : (si 2) ≠ (si 1)) (n_si2_mi : (si 2) ≠ mi) : cM l yX8_does (ws_ yX8_does cX8_does 2 none) (rm4 3 0 0 64) G ty (ws) [.ref md, .ref (sd 0)] 0 0 (fun r W' => r = none ∧ W' = (ws.set (si 1) (sd 1, .inl (ty 0, 3, .inl (fa (mvw st to w))))).set (si 2) (sd 2, .inl (ty 0, 2, .inl (fa (ug (ug q rp to) 1 to))))) := by
  refine cM.of (by decide) (Nat.le_of_ble_eq_true rfl) ?_
  intro p e s m args below meth c A Q H locs hQ hx hb hr hml hown hlk hname hts hK hP hD hS hA hX ls hl
  have hl : lv_has ls 2 [(0, .ref md), (1, .ref (sd 0))] := hl
  obtain ⟨hm0, hm1, hm2, hm3, hm4, hm5, hm6, hm7⟩ := id hm
  refine lv_aload_n hx hb dX8_does_0 rfl (lv_at hl 0 rfl) ?_
  refine lv_aload_n hx hb dX8_does_1 rfl (lv_at hl 1 rfl) ?_
  refine kM (va_runSU (hK.1 7 _ rfl).2 (As := [.ref (sd 0)]) (rest := []) ⟨hx, hb, hml, hown, hts⟩ ((m_doesD_8 l G ty ws si sd w q mi md st rp fr to hSp hM hm n_si1_si0 n_si1_si2 n_si1_mi n_si2_si0 n_si2_si1 n_si2_mi) H.size) (va_cwSU 1 hts (lw_app (lw_in _ [529, 1745, 457, 510, 81] (by decide +kernel) (by decide +kernel)) (lw_meth q511)) rfl rfl rfl (by decide +kernel) ⟨Nat.le_of_ble_eq_true rfl, Nat.le_of_ble_eq_true rfl⟩) (pvM (r := (RX8, TX8, 4)) hK hP hD hX mi hM rfl) rfl rfl hl.1 rfl (lv_room (Nat.le_of_ble_eq_true rfl)) dX8_does_2 ⟨Nat.le_of_ble_eq_true rfl, Nat.le_of_ble_eq_true rfl⟩) hD hS hA (fun v ws1 H locs hv hP hD hS => ?_)
  obtain ⟨rfl, rfl⟩ := hv
  obtain ⟨ws1_, hws1_⟩ : ∃ z, z = (ws.set (si 1) (sd 1, .inl (ty 0, 3, .inl (fa (mvw st to w))))) := ⟨_, rfl⟩
  have h1_0 : ws1_[(si 0)]? = some (sd 0, .inr (2, [.ref (sd 1), .ref (sd 2)])) := by rw [hws1_]; exact gs_n n_si1_si0 hSp.1
  have h1_1 : ws1_[(si 1)]? = some (sd 1, .inl (ty 0, 3, .inl (fa (mvw st to w)))) := by rw [hws1_]; exact gs_s hSp.2.1
  have h1_2 : ws1_[(si 2)]? = some (sd 2, .inl (ty 0, 2, .inl (fa q))) := by rw [hws1_]; exact gs_n n_si1_si2 hSp.2.2
  have h1_3 : ws1_[mi]? = some (md, .inr (7, [.int (ii st), .int (ii rp), .int (ii fr), .int (ii to)])) := by rw [hws1_]; exact gs_n n_si1_mi hM
  obtain ⟨ws2_, hws2_⟩ : ∃ z, z = (ws1_.set (si 2) (sd 2, .inl (ty 0, 2, .inl (fa (ug q rp to))))) := ⟨_, rfl⟩
  replace hP : va_P G gcl ws2_ H := by rw [hws2_, hws1_]; exact hP
  replace hD : va_D A ws2_ := by rw [hws2_, hws1_]; exact hD
  have h2_0 : ws2_[(si 0)]? = some (sd 0, .inr (2, [.ref (sd 1), .ref (sd 2)])) := by rw [hws2_]; exact gs_n n_si2_si0 h1_0
  have h2_1 : ws2_[(si 1)]? = some (sd 1, .inl (ty 0, 3, .inl (fa (mvw st to w)))) := by rw [hws2_]; exact gs_n n_si2_si1 h1_1
  have h2_2 : ws2_[(si 2)]? = some (sd 2, .inl (ty 0, 2, .inl (fa (ug q rp to)))) := by rw [hws2_]; exact gs_s h1_2
  have h2_3 : ws2_[mi]? = some (md, .inr (7, [.int (ii st), .int (ii rp), .int (ii fr), .int (ii to)])) := by rw [hws2_]; exact gs_n n_si2_mi h1_3
  refine lv_aload_n hx hb dX8_does_5 rfl (lv_at hl 1 rfl) ?_
  refine va_get (D := G) (fs := [.ref (sd 1), .ref (sd 2)]) (ci := 2) (v := .ref (sd 2)) (C := RX3) (T := TX3) (N := 2) hx hb hts in_X3 hown hK hP (si 0) h2_0 rfl 1 (by decide) (hts _ q661) (fun _ h9 => h9) rfl dX8_does_6 ?_
  refine li_iconst hx hb dX8_does_9 ?_
  refine lv_aload_n hx hb dX8_does_10 rfl (lv_at hl 0 rfl) ?_
  refine va_get (D := G) (fs := [.int (ii st), .int (ii rp), .int (ii fr), .int (ii to)]) (ci := 7) (v := .int (ii to)) (C := RX8) (T := TX8) (N := 4) hx hb hts in_X8 hown hK hP mi h2_3 rfl 3 (by decide) (hts _ q905) (fun x h9 => sf_X8_to hts x h9) rfl dX8_does_11 ?_
  refine li_iast (g := ug q rp to) (W2 := (ws2_.set (si 2) (sd 2, .inl (ty 0, 2, .inl (fa (ug (ug q rp to) 1 to)))))) hx hb hK hP hD hS (si 2) 0 h2_2 rfl (by decide) (by decide) (by decide) rfl dX8_does_14 (fun H locs hP hD hS => ?_)
  obtain ⟨ws3_, hws3_⟩ : ∃ z, z = (ws2_.set (si 2) (sd 2, .inl (ty 0, 2, .inl (fa (ug (ug q rp to) 1 to))))) := ⟨_, rfl⟩
  replace hP : va_P G gcl ws3_ H := by rw [hws3_]; exact hP
  replace hD : va_D A ws3_ := by rw [hws3_]; exact hD
  have h3_0 : ws3_[(si 0)]? = some (sd 0, .inr (2, [.ref (sd 1), .ref (sd 2)])) := by rw [hws3_]; exact gs_n n_si2_si0 h2_0
  have h3_1 : ws3_[(si 1)]? = some (sd 1, .inl (ty 0, 3, .inl (fa (mvw st to w)))) := by rw [hws3_]; exact gs_n n_si2_si1 h2_1
  have h3_2 : ws3_[(si 2)]? = some (sd 2, .inl (ty 0, 2, .inl (fa (ug (ug q rp to) 1 to)))) := by rw [hws3_]; exact gs_s h2_2
  have h3_3 : ws3_[mi]? = some (md, .inr (7, [.int (ii st), .int (ii rp), .int (ii fr), .int (ii to)])) := by rw [hws3_]; exact gs_n n_si2_mi h2_3
  exact eMv hQ hx hb hr hlk hP hD hS (Nat.le_of_ble_eq_true rfl) (Nat.le_of_ble_eq_true rfl) dX8_does_15 (⟨rfl, by rw [hws3_, hws2_, hws1_]; (try simp only [List.set_set])⟩)
