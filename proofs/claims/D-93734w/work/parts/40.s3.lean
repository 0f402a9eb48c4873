/-! the image, both sides (written by gen/s3.py) -/
set_option maxRecDepth 100000
def imgS (τ : mem) (G : Int → Int) : Prop := G 0 = τ 0 0 ∧ G 1 = τ 5 0 ∧ G 2 = τ 7 0 ∧ G 3 = τ 11 0 ∧ G 4 = τ 12 0 ∧ G 5 = τ 13 0
def imgL (τ : mem) (G : Int → Int) (k : Int) : Prop := imgS τ G ∧ ∀ l, 0 ≤ l → l < k → G (6 + 4 * l) = τ 1 l ∧ G (7 + 4 * l) = τ 2 l ∧ G (8 + 4 * l) = τ 3 l ∧ G (9 + 4 * l) = τ 4 l
def imgP (τ : mem) (G : Int → Int) (k : Int) : Prop := imgL τ G 5 ∧ ∀ l, 0 ≤ l → l < k → G (26 + 2 * l) = τ 6 l ∧ G (27 + 2 * l) = τ 9 l
def imgR (τ : mem) (G : Int → Int) (k : Int) : Prop := imgP τ G 3 ∧ ∀ l, 0 ≤ l → l < k → G (32 + 2 * l) = τ 8 l ∧ G (33 + 2 * l) = τ 10 l
/-- the model's image holds its face -/
def imgP_all (τ : mem) (G : Int → Int) : Prop := imgR τ G 2
theorem imgS_u {τ : mem} {G : Int → Int} {k v : Int} (h : imgS τ G) (hk : 6 ≤ k) : imgS τ (ug G k v) := by
  obtain ⟨a, b, c, d, e, f⟩ := h
  exact ⟨by rw [ug_n (by omega)]; exact a, by rw [ug_n (by omega)]; exact b, by rw [ug_n (by omega)]; exact c, by rw [ug_n (by omega)]; exact d, by rw [ug_n (by omega)]; exact e, by rw [ug_n (by omega)]; exact f⟩
theorem imgL_u {τ : mem} {G : Int → Int} {k v n : Int} (h : imgL τ G n) (hk : 6 + 4 * n ≤ k) (hn : 0 ≤ n) : imgL τ (ug G k v) n := by
  refine ⟨imgS_u h.1 (by omega), fun l a b => ?_⟩
  rw [ug_n (by omega), ug_n (by omega), ug_n (by omega), ug_n (by omega)]
  exact h.2 l a b
theorem imgP_u {τ : mem} {G : Int → Int} {k v n : Int} (h : imgP τ G n) (hk : 26 + 2 * n ≤ k) (hn : 0 ≤ n) : imgP τ (ug G k v) n := by
  refine ⟨imgL_u h.1 (by omega) (by decide), fun l a b => ?_⟩
  rw [ug_n (by omega), ug_n (by omega)]
  exact h.2 l a b
theorem imgR_u {τ : mem} {G : Int → Int} {k v n : Int} (h : imgR τ G n) (hk : 32 + 2 * n ≤ k) (hn : 0 ≤ n) : imgR τ (ug G k v) n := by
  refine ⟨imgP_u h.1 (by omega) (by decide), fun l a b => ?_⟩
  rw [ug_n (by omega), ug_n (by omega)]
  exact h.2 l a b
theorem imgL_s {τ : mem} {G : Int → Int} {k at_ v1 v2 v3 y : Int} (h : imgL τ G k) (ha : at_ = 6 + 4 * k) (h0 : 0 ≤ k) (hv : v1 = τ 1 k ∧ v2 = τ 2 k ∧ v3 = τ 3 k ∧ y = τ 4 k) : imgL τ (ug (ug (ug (ug G at_ v1) (at_ + 1) v2) (at_ + 2) v3) (at_ + 3) y) (k + 1) := by
  have hu := imgL_u (k := at_ + 3) (v := y) (imgL_u (k := at_ + 2) (v := v3) (imgL_u (k := at_ + 1) (v := v2) (imgL_u (k := at_) (v := v1) h (by omega) h0) (by omega) h0) (by omega) h0) (by omega) h0
  refine ⟨hu.1, fun l a b => ?_⟩
  by_cases q : l = k
  · subst q
    have e1 : 6 + 4 * l = at_ := by omega
    have e2 : 7 + 4 * l = at_ + 1 := by omega
    have e3 : 8 + 4 * l = at_ + 2 := by omega
    have e4 : 9 + 4 * l = at_ + 3 := by omega
    rw [e1, e2, e3, e4, ug_s, ug_n (by omega), ug_n (by omega), ug_n (by omega), ug_s, ug_n (by omega), ug_n (by omega), ug_s, ug_n (by omega), ug_s]
    exact hv
  · exact hu.2 l a (by omega)
theorem imgP_s {τ : mem} {G : Int → Int} {k at_ : Int} (h : imgP τ G k) (ha : at_ = 26 + 2 * k) (h0 : 0 ≤ k) : imgP τ (ug (ug G at_ (τ 6 k)) (at_ + 1) (τ 9 k)) (k + 1) := by
  have hu := imgP_u (k := at_ + 1) (v := τ 9 k) (imgP_u (k := at_) (v := τ 6 k) h (by omega) h0) (by omega) h0
  refine ⟨hu.1, fun l a b => ?_⟩
  by_cases q : l = k
  · subst q
    rw [show 26 + 2 * l = at_ by omega, show 27 + 2 * l = at_ + 1 by omega, ug_s, ug_n (by omega), ug_s]
    exact ⟨rfl, rfl⟩
  · exact hu.2 l a (by omega)
theorem imgR_s {τ : mem} {G : Int → Int} {k at_ : Int} (h : imgR τ G k) (ha : at_ = 32 + 2 * k) (h0 : 0 ≤ k) : imgR τ (ug (ug G at_ (τ 8 k)) (at_ + 1) (τ 10 k)) (k + 1) := by
  have hu := imgR_u (k := at_ + 1) (v := τ 10 k) (imgR_u (k := at_) (v := τ 8 k) h (by omega) h0) (by omega) h0
  refine ⟨hu.1, fun l a b => ?_⟩
  by_cases q : l = k
  · subst q
    rw [show 32 + 2 * l = at_ by omega, show 33 + 2 * l = at_ + 1 by omega, ug_s, ug_n (by omega), ug_s]
    exact ⟨rfl, rfl⟩
  · exact hu.2 l a (by omega)
def resL (G b1 b2 b3 b4 : Int → Int) (k : Int) : Prop := ∀ l, 0 ≤ l → l < k → b1 l = G (6 + 4 * l) ∧ b2 l = G (7 + 4 * l) ∧ b3 l = G (8 + 4 * l) ∧ b4 l = G (9 + 4 * l)
def res2 (G : Int → Int) (o : Int) (b c : Int → Int) (k : Int) : Prop := ∀ l, 0 ≤ l → l < k → b l = G (o + 2 * l) ∧ c l = G (o + 1 + 2 * l)
/-- a face out of the model's image -/
def resP_all (G b1 b2 b3 b4 b6 b9 b8 b10 : Int → Int) : Prop := resL G b1 b2 b3 b4 5 ∧ res2 G 26 b6 b9 3 ∧ res2 G 32 b8 b10 2
theorem resL_s {G b1 b2 b3 b4 : Int → Int} {k at_ y : Int} (h : resL G b1 b2 b3 b4 k) (ha : at_ = 6 + 4 * k) (_ : 0 ≤ k) (hy : y = G (9 + 4 * k)) : resL G (ug b1 k (G at_)) (ug b2 k (G (at_ + 1))) (ug b3 k (G (at_ + 1 + 1))) (ug b4 k y) (k + 1) := fun l a b => by
  by_cases q : l = k
  · subst q
    rw [ug_s, ug_s, ug_s, ug_s]
    exact ⟨by rw [ha], by rw [show 7 + 4 * l = at_ + 1 by omega], by rw [show 8 + 4 * l = at_ + 1 + 1 by omega], hy⟩
  · rw [ug_n q, ug_n q, ug_n q, ug_n q]
    exact h l a (by omega)
theorem res2_s {G b c : Int → Int} {o k at_ : Int} (h : res2 G o b c k) (ha : at_ = o + 2 * k) (_ : 0 ≤ k) : res2 G o (ug b k (G at_)) (ug c k (G (at_ + 1))) (k + 1) := fun l a b => by
  by_cases q : l = k
  · subst q
    rw [ug_s, ug_s]
    exact ⟨by rw [ha], by rw [show o + 1 + 2 * l = at_ + 1 by omega]⟩
  · rw [ug_n q, ug_n q]
    exact h l a (by omega)
theorem ug_z4 {g : Int → Int} {k v : Int} (h : ∀ i, g i = 0 ∨ g i = 1) (hv : v = 0 ∨ v = 1) : ∀ i, ug g k v i = 0 ∨ ug g k v i = 1 := fun i => by
  by_cases q : i = k
  · rw [q, ug_s]; exact hv
  · rw [ug_n q]; exact h i
set_option maxHeartbeats 4000000 in
theorem m_takesF_21_1 (l : Launch) (G : va_G) (ad : Nat → Nat) (ty : Nat → ClassId) (hv : Nat → Option Nat) (σ ς κ : mem) (cs : va_W)   (hz3 : ∀ i, 0 ≤ (σ 3) i ∧ (σ 3) i ≤ 1) : cM l yX2_takes (ws_ yX2_takes cX2_takes 2 none) (rm4 2 0 0 80) G ty (wD ad ty hv σ ς κ ++ cs) [.ref (ad 21), .ref (ad 1)] 0 0 (fun r W' => r = none ∧ W' = wD ad ty hv (up (up (up (up (up (up (up (up (up (up (up (up (up (up σ 48 (sc ((σ 8 0)))) 49 (sc ((σ 9 0)))) 50 (sc ((σ 10 0)))) 51 (sc ((σ 11 0)))) 52 (sc ((σ 12 0)))) 53 (sc ((σ 13 0)))) 40 (cp (σ 0) (σ 40) 5)) 41 (cp (σ 1) (σ 41) 5)) 42 (cp (σ 2) (σ 42) 5)) 43 (cp (σ 3) (σ 43) 5)) 44 (cp (σ 4) (σ 44) 3)) 45 (cp (σ 5) (σ 45) 2)) 46 (cp (σ 6) (σ 46) 3)) 47 (cp (σ 7) (σ 47) 2)) ς κ ++ cs) := by
  refine cM.of (by decide) (Nat.le_of_ble_eq_true rfl) ?_
  intro p e s m args below meth c A Q H locs hQ hx hb hr hml hown hlk hname hts hK hP hD hS hA hX ls hl
  have hl : lv_has ls 2 [(0, .ref (ad 21)), (1, .ref (ad 1))] := hl
  refine lv_aload_n hx hb dX2_takes_0 rfl (lv_at hl 0 rfl) ?_
  refine lv_aload_n hx hb dX2_takes_1 rfl (lv_at hl 1 rfl) ?_
  refine va_get (D := G) (ci := 1) (v := .int (ii (σ 8 0))) (C := RX2) (T := TX2) (N := 13) hx hb hts in_X2 hown hK hP 1 (aD_1 _ _ _ _ _ _ _) rfl 4 (by decide) (hts _ q784) (fun _ h9 => h9) rfl dX2_takes_2 ?_
  refine va_put (D := G) (ci := 1) (v := .int (ii (σ 8 0))) (ty := .int) (C := RX2) (T := TX2) (N := 13) hx hb hts in_X2 tyX2 tyX2_ok nmX2 hown hK hP hD hS 21 (aD_21 _ _ _ _ _ _ _) rfl 4 (by decide) (hts _ q784) (fun _ h9 => h9) rfl (tyX2_ok 4 (by decide)) rfl rfl (Nat.le_of_ble_eq_true rfl) dX2_takes_5 (fun H locs hP hD hS => ?_)
  have hP : va_P G gcl (wD ad ty hv (up σ 48 (sc (σ 8 0))) ς κ ++ cs) H := hP
  have hD : va_D A (wD ad ty hv (up σ 48 (sc (σ 8 0))) ς κ ++ cs) := hD
  refine lv_aload_n hx hb dX2_takes_8 rfl (lv_at hl 0 rfl) ?_
  refine lv_aload_n hx hb dX2_takes_9 rfl (lv_at hl 1 rfl) ?_
  refine va_get (D := G) (ci := 1) (v := .int (ii (σ 9 0))) (C := RX2) (T := TX2) (N := 13) hx hb hts in_X2 hown hK hP 1 (aD_1 _ _ _ _ _ _ _) rfl 6 (by decide) (hts _ q791) (fun _ h9 => h9) rfl dX2_takes_10 ?_
  refine va_put (D := G) (ci := 1) (v := .int (ii (σ 9 0))) (ty := .int) (C := RX2) (T := TX2) (N := 13) hx hb hts in_X2 tyX2 tyX2_ok nmX2 hown hK hP hD hS 21 (aD_21 _ _ _ _ _ _ _) rfl 6 (by decide) (hts _ q791) (fun _ h9 => h9) rfl (tyX2_ok 6 (by decide)) rfl rfl (Nat.le_of_ble_eq_true rfl) dX2_takes_13 (fun H locs hP hD hS => ?_)
  have hP : va_P G gcl (wD ad ty hv (up (up σ 48 (sc (σ 8 0))) 49 (sc (σ 9 0))) ς κ ++ cs) H := hP
  have hD : va_D A (wD ad ty hv (up (up σ 48 (sc (σ 8 0))) 49 (sc (σ 9 0))) ς κ ++ cs) := hD
  refine lv_aload_n hx hb dX2_takes_16 rfl (lv_at hl 0 rfl) ?_
  refine lv_aload_n hx hb dX2_takes_17 rfl (lv_at hl 1 rfl) ?_
  refine va_get (D := G) (ci := 1) (v := .int (ii (σ 10 0))) (C := RX2) (T := TX2) (N := 13) hx hb hts in_X2 hown hK hP 1 (aD_1 _ _ _ _ _ _ _) rfl 8 (by decide) (hts _ q800) (fun _ h9 => h9) rfl dX2_takes_18 ?_
  refine va_put (D := G) (ci := 1) (v := .int (ii (σ 10 0))) (ty := .int) (C := RX2) (T := TX2) (N := 13) hx hb hts in_X2 tyX2 tyX2_ok nmX2 hown hK hP hD hS 21 (aD_21 _ _ _ _ _ _ _) rfl 8 (by decide) (hts _ q800) (fun _ h9 => h9) rfl (tyX2_ok 8 (by decide)) rfl rfl (Nat.le_of_ble_eq_true rfl) dX2_takes_21 (fun H locs hP hD hS => ?_)
  have hP : va_P G gcl (wD ad ty hv (up (up (up σ 48 (sc (σ 8 0))) 49 (sc (σ 9 0))) 50 (sc (σ 10 0))) ς κ ++ cs) H := hP
  have hD : va_D A (wD ad ty hv (up (up (up σ 48 (sc (σ 8 0))) 49 (sc (σ 9 0))) 50 (sc (σ 10 0))) ς κ ++ cs) := hD
  refine lv_aload_n hx hb dX2_takes_24 rfl (lv_at hl 0 rfl) ?_
  refine lv_aload_n hx hb dX2_takes_25 rfl (lv_at hl 1 rfl) ?_
  refine va_get (D := G) (ci := 1) (v := .int (ii (σ 11 0))) (C := RX2) (T := TX2) (N := 13) hx hb hts in_X2 hown hK hP 1 (aD_1 _ _ _ _ _ _ _) rfl 9 (by decide) (hts _ q803) (fun _ h9 => h9) rfl dX2_takes_26 ?_
  refine va_put (D := G) (ci := 1) (v := .int (ii (σ 11 0))) (ty := .int) (C := RX2) (T := TX2) (N := 13) hx hb hts in_X2 tyX2 tyX2_ok nmX2 hown hK hP hD hS 21 (aD_21 _ _ _ _ _ _ _) rfl 9 (by decide) (hts _ q803) (fun _ h9 => h9) rfl (tyX2_ok 9 (by decide)) rfl rfl (Nat.le_of_ble_eq_true rfl) dX2_takes_29 (fun H locs hP hD hS => ?_)
  have hP : va_P G gcl (wD ad ty hv (up (up (up (up σ 48 (sc (σ 8 0))) 49 (sc (σ 9 0))) 50 (sc (σ 10 0))) 51 (sc (σ 11 0))) ς κ ++ cs) H := hP
  have hD : va_D A (wD ad ty hv (up (up (up (up σ 48 (sc (σ 8 0))) 49 (sc (σ 9 0))) 50 (sc (σ 10 0))) 51 (sc (σ 11 0))) ς κ ++ cs) := hD
  refine lv_aload_n hx hb dX2_takes_32 rfl (lv_at hl 0 rfl) ?_
  refine lv_aload_n hx hb dX2_takes_33 rfl (lv_at hl 1 rfl) ?_
  refine va_get (D := G) (ci := 1) (v := .int (ii (σ 12 0))) (C := RX2) (T := TX2) (N := 13) hx hb hts in_X2 hown hK hP 1 (aD_1 _ _ _ _ _ _ _) rfl 10 (by decide) (hts _ q805) (fun _ h9 => h9) rfl dX2_takes_34 ?_
  refine va_put (D := G) (ci := 1) (v := .int (ii (σ 12 0))) (ty := .int) (C := RX2) (T := TX2) (N := 13) hx hb hts in_X2 tyX2 tyX2_ok nmX2 hown hK hP hD hS 21 (aD_21 _ _ _ _ _ _ _) rfl 10 (by decide) (hts _ q805) (fun _ h9 => h9) rfl (tyX2_ok 10 (by decide)) rfl rfl (Nat.le_of_ble_eq_true rfl) dX2_takes_37 (fun H locs hP hD hS => ?_)
  have hP : va_P G gcl (wD ad ty hv (up (up (up (up (up σ 48 (sc (σ 8 0))) 49 (sc (σ 9 0))) 50 (sc (σ 10 0))) 51 (sc (σ 11 0))) 52 (sc (σ 12 0))) ς κ ++ cs) H := hP
  have hD : va_D A (wD ad ty hv (up (up (up (up (up σ 48 (sc (σ 8 0))) 49 (sc (σ 9 0))) 50 (sc (σ 10 0))) 51 (sc (σ 11 0))) 52 (sc (σ 12 0))) ς κ ++ cs) := hD
  refine lv_aload_n hx hb dX2_takes_40 rfl (lv_at hl 0 rfl) ?_
  refine lv_aload_n hx hb dX2_takes_41 rfl (lv_at hl 1 rfl) ?_
  refine va_get (D := G) (ci := 1) (v := .int (ii (σ 13 0))) (C := RX2) (T := TX2) (N := 13) hx hb hts in_X2 hown hK hP 1 (aD_1 _ _ _ _ _ _ _) rfl 11 (by decide) (hts _ q807) (fun _ h9 => h9) rfl dX2_takes_42 ?_
  refine va_put (D := G) (ci := 1) (v := .int (ii (σ 13 0))) (ty := .int) (C := RX2) (T := TX2) (N := 13) hx hb hts in_X2 tyX2 tyX2_ok nmX2 hown hK hP hD hS 21 (aD_21 _ _ _ _ _ _ _) rfl 11 (by decide) (hts _ q807) (fun _ h9 => h9) rfl (tyX2_ok 11 (by decide)) rfl rfl (Nat.le_of_ble_eq_true rfl) dX2_takes_45 (fun H locs hP hD hS => ?_)
  have hP : va_P G gcl (wD ad ty hv (up (up (up (up (up (up σ 48 (sc (σ 8 0))) 49 (sc (σ 9 0))) 50 (sc (σ 10 0))) 51 (sc (σ 11 0))) 52 (sc (σ 12 0))) 53 (sc (σ 13 0))) ς κ ++ cs) H := hP
  have hD : va_D A (wD ad ty hv (up (up (up (up (up (up σ 48 (sc (σ 8 0))) 49 (sc (σ 9 0))) 50 (sc (σ 10 0))) 51 (sc (σ 11 0))) 52 (sc (σ 12 0))) 53 (sc (σ 13 0))) ς κ ++ cs) := hD
  refine lv_aload_n hx hb dX2_takes_48 rfl (lv_at hl 1 rfl) ?_
  refine va_get (D := G) (ci := 1) (v := .ref (ad 2)) (C := RX2) (T := TX2) (N := 13) hx hb hts in_X2 hown hK hP 1 (aD_1 _ _ _ _ _ _ _) rfl 0 (by decide) (hts _ q771) (fun _ h9 => h9) rfl dX2_takes_49 ?_
  refine li_iconst hx hb dX2_takes_52 ?_
  refine lv_aload_n hx hb dX2_takes_53 rfl (lv_at hl 0 rfl) ?_
  refine va_get (D := G) (ci := 1) (v := .ref (ad 22)) (C := RX2) (T := TX2) (N := 13) hx hb hts in_X2 hown hK hP 21 (aD_21 _ _ _ _ _ _ _) rfl 0 (by decide) (hts _ q771) (fun _ h9 => h9) rfl dX2_takes_54 ?_
  refine li_iconst hx hb dX2_takes_57 ?_
  refine li_iconst hx hb dX2_takes_58 ?_
  refine li_copy (k := 5) (g := (σ 0)) (h := (σ 40)) (W2 := wD ad ty hv (up (up (up (up (up (up (up σ 48 (sc (σ 8 0))) 49 (sc (σ 9 0))) 50 (sc (σ 10 0))) 51 (sc (σ 11 0))) 52 (sc (σ 12 0))) 53 (sc (σ 13 0))) 40 (cp (σ 0) (σ 40) 5)) ς κ ++ cs) hx hb (hml.trans hl.1.symm) hown (hts _ q130) (hts _ q132) (hts _ q131) (hts _ q88) hK hP hD hS 2 22 0 (aD_2 _ _ _ _ _ _ _) (aD_22 _ _ _ _ _ _ _) rfl rfl (by decide) (by decide) (by decide) (fun _ => rfl) rfl (Nat.le_of_ble_eq_true rfl) (Nat.le_of_ble_eq_true rfl) dX2_takes_59 (fun H locs hP hD hS => ?_)
  refine lv_aload_n hx hb dX2_takes_62 rfl (lv_at hl 1 rfl) ?_
  refine va_get (D := G) (ci := 1) (v := .ref (ad 3)) (C := RX2) (T := TX2) (N := 13) hx hb hts in_X2 hown hK hP 1 (aD_1 _ _ _ _ _ _ _) rfl 1 (by decide) (hts _ q774) (fun _ h9 => h9) rfl dX2_takes_63 ?_
  refine li_iconst hx hb dX2_takes_66 ?_
  refine lv_aload_n hx hb dX2_takes_67 rfl (lv_at hl 0 rfl) ?_
  refine va_get (D := G) (ci := 1) (v := .ref (ad 23)) (C := RX2) (T := TX2) (N := 13) hx hb hts in_X2 hown hK hP 21 (aD_21 _ _ _ _ _ _ _) rfl 1 (by decide) (hts _ q774) (fun _ h9 => h9) rfl dX2_takes_68 ?_
  refine li_iconst hx hb dX2_takes_71 ?_
  refine li_iconst hx hb dX2_takes_72 ?_
  refine li_copy (k := 5) (g := (σ 1)) (h := (σ 41)) (W2 := wD ad ty hv (up (up (up (up (up (up (up (up σ 48 (sc (σ 8 0))) 49 (sc (σ 9 0))) 50 (sc (σ 10 0))) 51 (sc (σ 11 0))) 52 (sc (σ 12 0))) 53 (sc (σ 13 0))) 40 (cp (σ 0) (σ 40) 5)) 41 (cp (σ 1) (σ 41) 5)) ς κ ++ cs) hx hb (hml.trans hl.1.symm) hown (hts _ q130) (hts _ q132) (hts _ q131) (hts _ q88) hK hP hD hS 3 23 0 (aD_3 _ _ _ _ _ _ _) (aD_23 _ _ _ _ _ _ _) rfl rfl (by decide) (by decide) (by decide) (fun _ => rfl) rfl (Nat.le_of_ble_eq_true rfl) (Nat.le_of_ble_eq_true rfl) dX2_takes_73 (fun H locs hP hD hS => ?_)
  refine lv_aload_n hx hb dX2_takes_76 rfl (lv_at hl 1 rfl) ?_
  refine va_get (D := G) (ci := 1) (v := .ref (ad 4)) (C := RX2) (T := TX2) (N := 13) hx hb hts in_X2 hown hK hP 1 (aD_1 _ _ _ _ _ _ _) rfl 2 (by decide) (hts _ q778) (fun _ h9 => h9) rfl dX2_takes_77 ?_
  refine li_iconst hx hb dX2_takes_80 ?_
  refine lv_aload_n hx hb dX2_takes_81 rfl (lv_at hl 0 rfl) ?_
  refine va_get (D := G) (ci := 1) (v := .ref (ad 24)) (C := RX2) (T := TX2) (N := 13) hx hb hts in_X2 hown hK hP 21 (aD_21 _ _ _ _ _ _ _) rfl 2 (by decide) (hts _ q778) (fun _ h9 => h9) rfl dX2_takes_82 ?_
  refine li_iconst hx hb dX2_takes_85 ?_
  refine li_iconst hx hb dX2_takes_86 ?_
  refine li_copy (k := 5) (g := (σ 2)) (h := (σ 42)) (W2 := wD ad ty hv (up (up (up (up (up (up (up (up (up σ 48 (sc (σ 8 0))) 49 (sc (σ 9 0))) 50 (sc (σ 10 0))) 51 (sc (σ 11 0))) 52 (sc (σ 12 0))) 53 (sc (σ 13 0))) 40 (cp (σ 0) (σ 40) 5)) 41 (cp (σ 1) (σ 41) 5)) 42 (cp (σ 2) (σ 42) 5)) ς κ ++ cs) hx hb (hml.trans hl.1.symm) hown (hts _ q130) (hts _ q132) (hts _ q131) (hts _ q88) hK hP hD hS 4 24 0 (aD_4 _ _ _ _ _ _ _) (aD_24 _ _ _ _ _ _ _) rfl rfl (by decide) (by decide) (by decide) (fun _ => rfl) rfl (Nat.le_of_ble_eq_true rfl) (Nat.le_of_ble_eq_true rfl) dX2_takes_87 (fun H locs hP hD hS => ?_)
  refine lv_aload_n hx hb dX2_takes_90 rfl (lv_at hl 1 rfl) ?_
  refine va_get (D := G) (ci := 1) (v := .ref (ad 5)) (C := RX2) (T := TX2) (N := 13) hx hb hts in_X2 hown hK hP 1 (aD_1 _ _ _ _ _ _ _) rfl 3 (by decide) (hts _ q781) (fun _ h9 => h9) rfl dX2_takes_91 ?_
  refine li_iconst hx hb dX2_takes_94 ?_
  refine lv_aload_n hx hb dX2_takes_95 rfl (lv_at hl 0 rfl) ?_
  refine va_get (D := G) (ci := 1) (v := .ref (ad 25)) (C := RX2) (T := TX2) (N := 13) hx hb hts in_X2 hown hK hP 21 (aD_21 _ _ _ _ _ _ _) rfl 3 (by decide) (hts _ q781) (fun _ h9 => h9) rfl dX2_takes_96 ?_
  refine li_iconst hx hb dX2_takes_99 ?_
  refine li_iconst hx hb dX2_takes_100 ?_
  refine li_copy (k := 5) (g := (σ 3)) (h := (σ 43)) (W2 := wD ad ty hv (up (up (up (up (up (up (up (up (up (up σ 48 (sc (σ 8 0))) 49 (sc (σ 9 0))) 50 (sc (σ 10 0))) 51 (sc (σ 11 0))) 52 (sc (σ 12 0))) 53 (sc (σ 13 0))) 40 (cp (σ 0) (σ 40) 5)) 41 (cp (σ 1) (σ 41) 5)) 42 (cp (σ 2) (σ 42) 5)) 43 (cp (σ 3) (σ 43) 5)) ς κ ++ cs) hx hb (hml.trans hl.1.symm) hown (hts _ q130) (hts _ q132) (hts _ q131) (hts _ q88) hK hP hD hS 5 25 1 (aD_5 _ _ _ _ _ _ _) (aD_25 _ _ _ _ _ _ _) rfl rfl (by decide) (by decide) (by decide) (fun i => fit_z (by have := hz3 i; omega)) rfl (Nat.le_of_ble_eq_true rfl) (Nat.le_of_ble_eq_true rfl) dX2_takes_101 (fun H locs hP hD hS => ?_)
  refine lv_aload_n hx hb dX2_takes_104 rfl (lv_at hl 1 rfl) ?_
  refine va_get (D := G) (ci := 1) (v := .ref (ad 6)) (C := RX2) (T := TX2) (N := 13) hx hb hts in_X2 hown hK hP 1 (aD_1 _ _ _ _ _ _ _) rfl 5 (by decide) (hts _ q786) (fun _ h9 => h9) rfl dX2_takes_105 ?_
  refine li_iconst hx hb dX2_takes_108 ?_
  refine lv_aload_n hx hb dX2_takes_109 rfl (lv_at hl 0 rfl) ?_
  refine va_get (D := G) (ci := 1) (v := .ref (ad 26)) (C := RX2) (T := TX2) (N := 13) hx hb hts in_X2 hown hK hP 21 (aD_21 _ _ _ _ _ _ _) rfl 5 (by decide) (hts _ q786) (fun _ h9 => h9) rfl dX2_takes_110 ?_
  refine li_iconst hx hb dX2_takes_113 ?_
  refine li_iconst hx hb dX2_takes_114 ?_
  refine li_copy (k := 3) (g := (σ 4)) (h := (σ 44)) (W2 := wD ad ty hv (up (up (up (up (up (up (up (up (up (up (up σ 48 (sc (σ 8 0))) 49 (sc (σ 9 0))) 50 (sc (σ 10 0))) 51 (sc (σ 11 0))) 52 (sc (σ 12 0))) 53 (sc (σ 13 0))) 40 (cp (σ 0) (σ 40) 5)) 41 (cp (σ 1) (σ 41) 5)) 42 (cp (σ 2) (σ 42) 5)) 43 (cp (σ 3) (σ 43) 5)) 44 (cp (σ 4) (σ 44) 3)) ς κ ++ cs) hx hb (hml.trans hl.1.symm) hown (hts _ q130) (hts _ q132) (hts _ q131) (hts _ q88) hK hP hD hS 6 26 0 (aD_6 _ _ _ _ _ _ _) (aD_26 _ _ _ _ _ _ _) rfl rfl (by decide) (by decide) (by decide) (fun _ => rfl) rfl (Nat.le_of_ble_eq_true rfl) (Nat.le_of_ble_eq_true rfl) dX2_takes_115 (fun H locs hP hD hS => ?_)
  refine lv_aload_n hx hb dX2_takes_118 rfl (lv_at hl 1 rfl) ?_
  refine va_get (D := G) (ci := 1) (v := .ref (ad 7)) (C := RX2) (T := TX2) (N := 13) hx hb hts in_X2 hown hK hP 1 (aD_1 _ _ _ _ _ _ _) rfl 7 (by decide) (hts _ q794) (fun _ h9 => h9) rfl dX2_takes_119 ?_
  refine li_iconst hx hb dX2_takes_122 ?_
  refine lv_aload_n hx hb dX2_takes_123 rfl (lv_at hl 0 rfl) ?_
  refine va_get (D := G) (ci := 1) (v := .ref (ad 27)) (C := RX2) (T := TX2) (N := 13) hx hb hts in_X2 hown hK hP 21 (aD_21 _ _ _ _ _ _ _) rfl 7 (by decide) (hts _ q794) (fun _ h9 => h9) rfl dX2_takes_124 ?_
  refine li_iconst hx hb dX2_takes_127 ?_
  refine li_iconst hx hb dX2_takes_128 ?_
  refine li_copy (k := 2) (g := (σ 5)) (h := (σ 45)) (W2 := wD ad ty hv (up (up (up (up (up (up (up (up (up (up (up (up σ 48 (sc (σ 8 0))) 49 (sc (σ 9 0))) 50 (sc (σ 10 0))) 51 (sc (σ 11 0))) 52 (sc (σ 12 0))) 53 (sc (σ 13 0))) 40 (cp (σ 0) (σ 40) 5)) 41 (cp (σ 1) (σ 41) 5)) 42 (cp (σ 2) (σ 42) 5)) 43 (cp (σ 3) (σ 43) 5)) 44 (cp (σ 4) (σ 44) 3)) 45 (cp (σ 5) (σ 45) 2)) ς κ ++ cs) hx hb (hml.trans hl.1.symm) hown (hts _ q130) (hts _ q132) (hts _ q131) (hts _ q88) hK hP hD hS 7 27 0 (aD_7 _ _ _ _ _ _ _) (aD_27 _ _ _ _ _ _ _) rfl rfl (by decide) (by decide) (by decide) (fun _ => rfl) rfl (Nat.le_of_ble_eq_true rfl) (Nat.le_of_ble_eq_true rfl) dX2_takes_129 (fun H locs hP hD hS => ?_)
  refine lv_aload_n hx hb dX2_takes_132 rfl (lv_at hl 0 rfl) ?_
  refine va_get (D := G) (ci := 1) (v := .ref (ad 28)) (C := RX2) (T := TX2) (N := 13) hx hb hts in_X2 hown hK hP 21 (aD_21 _ _ _ _ _ _ _) rfl 12 (by decide) (hts _ q809) (fun _ h9 => h9) rfl dX2_takes_133 ?_
  refine lv_aload_n hx hb dX2_takes_136 rfl (lv_at hl 1 rfl) ?_
  refine va_get (D := G) (ci := 1) (v := .ref (ad 8)) (C := RX2) (T := TX2) (N := 13) hx hb hts in_X2 hown hK hP 1 (aD_1 _ _ _ _ _ _ _) rfl 12 (by decide) (hts _ q809) (fun _ h9 => h9) rfl dX2_takes_137 ?_
  refine kM (va_runV (As := [.ref (ad 8)]) (rest := []) ⟨hx, hb, hml, hown, hts⟩ (m_takesS l G ty (wD ad ty hv (up (up (up (up (up (up (up (up (up (up (up (up σ 48 (sc (σ 8 0))) 49 (sc (σ 9 0))) 50 (sc (σ 10 0))) 51 (sc (σ 11 0))) 52 (sc (σ 12 0))) 53 (sc (σ 13 0))) 40 (cp (σ 0) (σ 40) 5)) 41 (cp (σ 1) (σ 41) 5)) 42 (cp (σ 2) (σ 42) 5)) 43 (cp (σ 3) (σ 43) 5)) 44 (cp (σ 4) (σ 44) 3)) 45 (cp (σ 5) (σ 45) 2)) ς κ ++ cs) (fun k => 28 + k) (fun k => ad (28 + k)) (σ 46) (σ 47) (fun k => 8 + k) (fun k => ad (8 + k)) (σ 6) (σ 7) ⟨rfl, rfl, rfl⟩ ⟨rfl, rfl, rfl⟩ (by decide) (by decide) (by decide) (by decide) (by decide) (by decide) (by decide) (by decide) (by decide) (by decide) H.size) (cwV 1 hts (lw_V q133 q134 q135 q78 q136) rfl rfl rfl (by decide +kernel) ⟨Nat.le_of_ble_eq_true rfl, Nat.le_of_ble_eq_true rfl⟩) (pvM (r := (RX3, TX3, 2)) hK hP hD hX 28 (aD_28 _ _ _ _ _ _ _) rfl) rfl rfl hl.1 rfl (lv_room (Nat.le_of_ble_eq_true rfl)) dX2_takes_140 ⟨Nat.le_of_ble_eq_true rfl, Nat.le_of_ble_eq_true rfl⟩) hD hS hA (fun v ws1 H locs hv hP hD hS => ?_)
  obtain ⟨rfl, rfl⟩ := hv
  have hP : va_P G gcl (wD ad ty hv (up (up (up (up (up (up (up (up (up (up (up (up (up (up σ 48 (sc (σ 8 0))) 49 (sc (σ 9 0))) 50 (sc (σ 10 0))) 51 (sc (σ 11 0))) 52 (sc (σ 12 0))) 53 (sc (σ 13 0))) 40 (cp (σ 0) (σ 40) 5)) 41 (cp (σ 1) (σ 41) 5)) 42 (cp (σ 2) (σ 42) 5)) 43 (cp (σ 3) (σ 43) 5)) 44 (cp (σ 4) (σ 44) 3)) 45 (cp (σ 5) (σ 45) 2)) 46 (cp (σ 6) (σ 46) 3)) 47 (cp (σ 7) (σ 47) 2)) ς κ ++ cs) H := hP
  have hD : va_D A (wD ad ty hv (up (up (up (up (up (up (up (up (up (up (up (up (up (up σ 48 (sc (σ 8 0))) 49 (sc (σ 9 0))) 50 (sc (σ 10 0))) 51 (sc (σ 11 0))) 52 (sc (σ 12 0))) 53 (sc (σ 13 0))) 40 (cp (σ 0) (σ 40) 5)) 41 (cp (σ 1) (σ 41) 5)) 42 (cp (σ 2) (σ 42) 5)) 43 (cp (σ 3) (σ 43) 5)) 44 (cp (σ 4) (σ 44) 3)) 45 (cp (σ 5) (σ 45) 2)) 46 (cp (σ 6) (σ 46) 3)) 47 (cp (σ 7) (σ 47) 2)) ς κ ++ cs) := hD
  exact eMv hQ hx hb hr hlk hP hD hS (Nat.le_of_ble_eq_true rfl) (Nat.le_of_ble_eq_true rfl) dX2_takes_143 (⟨rfl, rfl⟩)
set_option maxHeartbeats 4000000 in
theorem m_takesF_1_21 (l : Launch) (G : va_G) (ad : Nat → Nat) (ty : Nat → ClassId) (hv : Nat → Option Nat) (σ ς κ : mem) (cs : va_W)   (hz3 : ∀ i, 0 ≤ (σ 43) i ∧ (σ 43) i ≤ 1) : cM l yX2_takes (ws_ yX2_takes cX2_takes 2 none) (rm4 2 0 0 80) G ty (wD ad ty hv σ ς κ ++ cs) [.ref (ad 1), .ref (ad 21)] 0 0 (fun r W' => r = none ∧ W' = wD ad ty hv (up (up (up (up (up (up (up (up (up (up (up (up (up (up σ 8 (sc ((σ 48 0)))) 9 (sc ((σ 49 0)))) 10 (sc ((σ 50 0)))) 11 (sc ((σ 51 0)))) 12 (sc ((σ 52 0)))) 13 (sc ((σ 53 0)))) 0 (cp (σ 40) (σ 0) 5)) 1 (cp (σ 41) (σ 1) 5)) 2 (cp (σ 42) (σ 2) 5)) 3 (cp (σ 43) (σ 3) 5)) 4 (cp (σ 44) (σ 4) 3)) 5 (cp (σ 45) (σ 5) 2)) 6 (cp (σ 46) (σ 6) 3)) 7 (cp (σ 47) (σ 7) 2)) ς κ ++ cs) := by
  refine cM.of (by decide) (Nat.le_of_ble_eq_true rfl) ?_
  intro p e s m args below meth c A Q H locs hQ hx hb hr hml hown hlk hname hts hK hP hD hS hA hX ls hl
  have hl : lv_has ls 2 [(0, .ref (ad 1)), (1, .ref (ad 21))] := hl
  refine lv_aload_n hx hb dX2_takes_0 rfl (lv_at hl 0 rfl) ?_
  refine lv_aload_n hx hb dX2_takes_1 rfl (lv_at hl 1 rfl) ?_
  refine va_get (D := G) (ci := 1) (v := .int (ii (σ 48 0))) (C := RX2) (T := TX2) (N := 13) hx hb hts in_X2 hown hK hP 21 (aD_21 _ _ _ _ _ _ _) rfl 4 (by decide) (hts _ q784) (fun _ h9 => h9) rfl dX2_takes_2 ?_
  refine va_put (D := G) (ci := 1) (v := .int (ii (σ 48 0))) (ty := .int) (C := RX2) (T := TX2) (N := 13) hx hb hts in_X2 tyX2 tyX2_ok nmX2 hown hK hP hD hS 1 (aD_1 _ _ _ _ _ _ _) rfl 4 (by decide) (hts _ q784) (fun _ h9 => h9) rfl (tyX2_ok 4 (by decide)) rfl rfl (Nat.le_of_ble_eq_true rfl) dX2_takes_5 (fun H locs hP hD hS => ?_)
  have hP : va_P G gcl (wD ad ty hv (up σ 8 (sc (σ 48 0))) ς κ ++ cs) H := hP
  have hD : va_D A (wD ad ty hv (up σ 8 (sc (σ 48 0))) ς κ ++ cs) := hD
  refine lv_aload_n hx hb dX2_takes_8 rfl (lv_at hl 0 rfl) ?_
  refine lv_aload_n hx hb dX2_takes_9 rfl (lv_at hl 1 rfl) ?_
  refine va_get (D := G) (ci := 1) (v := .int (ii (σ 49 0))) (C := RX2) (T := TX2) (N := 13) hx hb hts in_X2 hown hK hP 21 (aD_21 _ _ _ _ _ _ _) rfl 6 (by decide) (hts _ q791) (fun _ h9 => h9) rfl dX2_takes_10 ?_
  refine va_put (D := G) (ci := 1) (v := .int (ii (σ 49 0))) (ty := .int) (C := RX2) (T := TX2) (N := 13) hx hb hts in_X2 tyX2 tyX2_ok nmX2 hown hK hP hD hS 1 (aD_1 _ _ _ _ _ _ _) rfl 6 (by decide) (hts _ q791) (fun _ h9 => h9) rfl (tyX2_ok 6 (by decide)) rfl rfl (Nat.le_of_ble_eq_true rfl) dX2_takes_13 (fun H locs hP hD hS => ?_)
  have hP : va_P G gcl (wD ad ty hv (up (up σ 8 (sc (σ 48 0))) 9 (sc (σ 49 0))) ς κ ++ cs) H := hP
  have hD : va_D A (wD ad ty hv (up (up σ 8 (sc (σ 48 0))) 9 (sc (σ 49 0))) ς κ ++ cs) := hD
  refine lv_aload_n hx hb dX2_takes_16 rfl (lv_at hl 0 rfl) ?_
  refine lv_aload_n hx hb dX2_takes_17 rfl (lv_at hl 1 rfl) ?_
  refine va_get (D := G) (ci := 1) (v := .int (ii (σ 50 0))) (C := RX2) (T := TX2) (N := 13) hx hb hts in_X2 hown hK hP 21 (aD_21 _ _ _ _ _ _ _) rfl 8 (by decide) (hts _ q800) (fun _ h9 => h9) rfl dX2_takes_18 ?_
  refine va_put (D := G) (ci := 1) (v := .int (ii (σ 50 0))) (ty := .int) (C := RX2) (T := TX2) (N := 13) hx hb hts in_X2 tyX2 tyX2_ok nmX2 hown hK hP hD hS 1 (aD_1 _ _ _ _ _ _ _) rfl 8 (by decide) (hts _ q800) (fun _ h9 => h9) rfl (tyX2_ok 8 (by decide)) rfl rfl (Nat.le_of_ble_eq_true rfl) dX2_takes_21 (fun H locs hP hD hS => ?_)
  have hP : va_P G gcl (wD ad ty hv (up (up (up σ 8 (sc (σ 48 0))) 9 (sc (σ 49 0))) 10 (sc (σ 50 0))) ς κ ++ cs) H := hP
  have hD : va_D A (wD ad ty hv (up (up (up σ 8 (sc (σ 48 0))) 9 (sc (σ 49 0))) 10 (sc (σ 50 0))) ς κ ++ cs) := hD
  refine lv_aload_n hx hb dX2_takes_24 rfl (lv_at hl 0 rfl) ?_
  refine lv_aload_n hx hb dX2_takes_25 rfl (lv_at hl 1 rfl) ?_
  refine va_get (D := G) (ci := 1) (v := .int (ii (σ 51 0))) (C := RX2) (T := TX2) (N := 13) hx hb hts in_X2 hown hK hP 21 (aD_21 _ _ _ _ _ _ _) rfl 9 (by decide) (hts _ q803) (fun _ h9 => h9) rfl dX2_takes_26 ?_
  refine va_put (D := G) (ci := 1) (v := .int (ii (σ 51 0))) (ty := .int) (C := RX2) (T := TX2) (N := 13) hx hb hts in_X2 tyX2 tyX2_ok nmX2 hown hK hP hD hS 1 (aD_1 _ _ _ _ _ _ _) rfl 9 (by decide) (hts _ q803) (fun _ h9 => h9) rfl (tyX2_ok 9 (by decide)) rfl rfl (Nat.le_of_ble_eq_true rfl) dX2_takes_29 (fun H locs hP hD hS => ?_)
  have hP : va_P G gcl (wD ad ty hv (up (up (up (up σ 8 (sc (σ 48 0))) 9 (sc (σ 49 0))) 10 (sc (σ 50 0))) 11 (sc (σ 51 0))) ς κ ++ cs) H := hP
  have hD : va_D A (wD ad ty hv (up (up (up (up σ 8 (sc (σ 48 0))) 9 (sc (σ 49 0))) 10 (sc (σ 50 0))) 11 (sc (σ 51 0))) ς κ ++ cs) := hD
  refine lv_aload_n hx hb dX2_takes_32 rfl (lv_at hl 0 rfl) ?_
  refine lv_aload_n hx hb dX2_takes_33 rfl (lv_at hl 1 rfl) ?_
  refine va_get (D := G) (ci := 1) (v := .int (ii (σ 52 0))) (C := RX2) (T := TX2) (N := 13) hx hb hts in_X2 hown hK hP 21 (aD_21 _ _ _ _ _ _ _) rfl 10 (by decide) (hts _ q805) (fun _ h9 => h9) rfl dX2_takes_34 ?_
  refine va_put (D := G) (ci := 1) (v := .int (ii (σ 52 0))) (ty := .int) (C := RX2) (T := TX2) (N := 13) hx hb hts in_X2 tyX2 tyX2_ok nmX2 hown hK hP hD hS 1 (aD_1 _ _ _ _ _ _ _) rfl 10 (by decide) (hts _ q805) (fun _ h9 => h9) rfl (tyX2_ok 10 (by decide)) rfl rfl (Nat.le_of_ble_eq_true rfl) dX2_takes_37 (fun H locs hP hD hS => ?_)
  have hP : va_P G gcl (wD ad ty hv (up (up (up (up (up σ 8 (sc (σ 48 0))) 9 (sc (σ 49 0))) 10 (sc (σ 50 0))) 11 (sc (σ 51 0))) 12 (sc (σ 52 0))) ς κ ++ cs) H := hP
  have hD : va_D A (wD ad ty hv (up (up (up (up (up σ 8 (sc (σ 48 0))) 9 (sc (σ 49 0))) 10 (sc (σ 50 0))) 11 (sc (σ 51 0))) 12 (sc (σ 52 0))) ς κ ++ cs) := hD
  refine lv_aload_n hx hb dX2_takes_40 rfl (lv_at hl 0 rfl) ?_
  refine lv_aload_n hx hb dX2_takes_41 rfl (lv_at hl 1 rfl) ?_
  refine va_get (D := G) (ci := 1) (v := .int (ii (σ 53 0))) (C := RX2) (T := TX2) (N := 13) hx hb hts in_X2 hown hK hP 21 (aD_21 _ _ _ _ _ _ _) rfl 11 (by decide) (hts _ q807) (fun _ h9 => h9) rfl dX2_takes_42 ?_
  refine va_put (D := G) (ci := 1) (v := .int (ii (σ 53 0))) (ty := .int) (C := RX2) (T := TX2) (N := 13) hx hb hts in_X2 tyX2 tyX2_ok nmX2 hown hK hP hD hS 1 (aD_1 _ _ _ _ _ _ _) rfl 11 (by decide) (hts _ q807) (fun _ h9 => h9) rfl (tyX2_ok 11 (by decide)) rfl rfl (Nat.le_of_ble_eq_true rfl) dX2_takes_45 (fun H locs hP hD hS => ?_)
  have hP : va_P G gcl (wD ad ty hv (up (up (up (up (up (up σ 8 (sc (σ 48 0))) 9 (sc (σ 49 0))) 10 (sc (σ 50 0))) 11 (sc (σ 51 0))) 12 (sc (σ 52 0))) 13 (sc (σ 53 0))) ς κ ++ cs) H := hP
  have hD : va_D A (wD ad ty hv (up (up (up (up (up (up σ 8 (sc (σ 48 0))) 9 (sc (σ 49 0))) 10 (sc (σ 50 0))) 11 (sc (σ 51 0))) 12 (sc (σ 52 0))) 13 (sc (σ 53 0))) ς κ ++ cs) := hD
  refine lv_aload_n hx hb dX2_takes_48 rfl (lv_at hl 1 rfl) ?_
  refine va_get (D := G) (ci := 1) (v := .ref (ad 22)) (C := RX2) (T := TX2) (N := 13) hx hb hts in_X2 hown hK hP 21 (aD_21 _ _ _ _ _ _ _) rfl 0 (by decide) (hts _ q771) (fun _ h9 => h9) rfl dX2_takes_49 ?_
  refine li_iconst hx hb dX2_takes_52 ?_
  refine lv_aload_n hx hb dX2_takes_53 rfl (lv_at hl 0 rfl) ?_
  refine va_get (D := G) (ci := 1) (v := .ref (ad 2)) (C := RX2) (T := TX2) (N := 13) hx hb hts in_X2 hown hK hP 1 (aD_1 _ _ _ _ _ _ _) rfl 0 (by decide) (hts _ q771) (fun _ h9 => h9) rfl dX2_takes_54 ?_
  refine li_iconst hx hb dX2_takes_57 ?_
  refine li_iconst hx hb dX2_takes_58 ?_
  refine li_copy (k := 5) (g := (σ 40)) (h := (σ 0)) (W2 := wD ad ty hv (up (up (up (up (up (up (up σ 8 (sc (σ 48 0))) 9 (sc (σ 49 0))) 10 (sc (σ 50 0))) 11 (sc (σ 51 0))) 12 (sc (σ 52 0))) 13 (sc (σ 53 0))) 0 (cp (σ 40) (σ 0) 5)) ς κ ++ cs) hx hb (hml.trans hl.1.symm) hown (hts _ q130) (hts _ q132) (hts _ q131) (hts _ q88) hK hP hD hS 22 2 0 (aD_22 _ _ _ _ _ _ _) (aD_2 _ _ _ _ _ _ _) rfl rfl (by decide) (by decide) (by decide) (fun _ => rfl) rfl (Nat.le_of_ble_eq_true rfl) (Nat.le_of_ble_eq_true rfl) dX2_takes_59 (fun H locs hP hD hS => ?_)
  refine lv_aload_n hx hb dX2_takes_62 rfl (lv_at hl 1 rfl) ?_
  refine va_get (D := G) (ci := 1) (v := .ref (ad 23)) (C := RX2) (T := TX2) (N := 13) hx hb hts in_X2 hown hK hP 21 (aD_21 _ _ _ _ _ _ _) rfl 1 (by decide) (hts _ q774) (fun _ h9 => h9) rfl dX2_takes_63 ?_
  refine li_iconst hx hb dX2_takes_66 ?_
  refine lv_aload_n hx hb dX2_takes_67 rfl (lv_at hl 0 rfl) ?_
  refine va_get (D := G) (ci := 1) (v := .ref (ad 3)) (C := RX2) (T := TX2) (N := 13) hx hb hts in_X2 hown hK hP 1 (aD_1 _ _ _ _ _ _ _) rfl 1 (by decide) (hts _ q774) (fun _ h9 => h9) rfl dX2_takes_68 ?_
  refine li_iconst hx hb dX2_takes_71 ?_
  refine li_iconst hx hb dX2_takes_72 ?_
  refine li_copy (k := 5) (g := (σ 41)) (h := (σ 1)) (W2 := wD ad ty hv (up (up (up (up (up (up (up (up σ 8 (sc (σ 48 0))) 9 (sc (σ 49 0))) 10 (sc (σ 50 0))) 11 (sc (σ 51 0))) 12 (sc (σ 52 0))) 13 (sc (σ 53 0))) 0 (cp (σ 40) (σ 0) 5)) 1 (cp (σ 41) (σ 1) 5)) ς κ ++ cs) hx hb (hml.trans hl.1.symm) hown (hts _ q130) (hts _ q132) (hts _ q131) (hts _ q88) hK hP hD hS 23 3 0 (aD_23 _ _ _ _ _ _ _) (aD_3 _ _ _ _ _ _ _) rfl rfl (by decide) (by decide) (by decide) (fun _ => rfl) rfl (Nat.le_of_ble_eq_true rfl) (Nat.le_of_ble_eq_true rfl) dX2_takes_73 (fun H locs hP hD hS => ?_)
  refine lv_aload_n hx hb dX2_takes_76 rfl (lv_at hl 1 rfl) ?_
  refine va_get (D := G) (ci := 1) (v := .ref (ad 24)) (C := RX2) (T := TX2) (N := 13) hx hb hts in_X2 hown hK hP 21 (aD_21 _ _ _ _ _ _ _) rfl 2 (by decide) (hts _ q778) (fun _ h9 => h9) rfl dX2_takes_77 ?_
  refine li_iconst hx hb dX2_takes_80 ?_
  refine lv_aload_n hx hb dX2_takes_81 rfl (lv_at hl 0 rfl) ?_
  refine va_get (D := G) (ci := 1) (v := .ref (ad 4)) (C := RX2) (T := TX2) (N := 13) hx hb hts in_X2 hown hK hP 1 (aD_1 _ _ _ _ _ _ _) rfl 2 (by decide) (hts _ q778) (fun _ h9 => h9) rfl dX2_takes_82 ?_
  refine li_iconst hx hb dX2_takes_85 ?_
  refine li_iconst hx hb dX2_takes_86 ?_
  refine li_copy (k := 5) (g := (σ 42)) (h := (σ 2)) (W2 := wD ad ty hv (up (up (up (up (up (up (up (up (up σ 8 (sc (σ 48 0))) 9 (sc (σ 49 0))) 10 (sc (σ 50 0))) 11 (sc (σ 51 0))) 12 (sc (σ 52 0))) 13 (sc (σ 53 0))) 0 (cp (σ 40) (σ 0) 5)) 1 (cp (σ 41) (σ 1) 5)) 2 (cp (σ 42) (σ 2) 5)) ς κ ++ cs) hx hb (hml.trans hl.1.symm) hown (hts _ q130) (hts _ q132) (hts _ q131) (hts _ q88) hK hP hD hS 24 4 0 (aD_24 _ _ _ _ _ _ _) (aD_4 _ _ _ _ _ _ _) rfl rfl (by decide) (by decide) (by decide) (fun _ => rfl) rfl (Nat.le_of_ble_eq_true rfl) (Nat.le_of_ble_eq_true rfl) dX2_takes_87 (fun H locs hP hD hS => ?_)
  refine lv_aload_n hx hb dX2_takes_90 rfl (lv_at hl 1 rfl) ?_
  refine va_get (D := G) (ci := 1) (v := .ref (ad 25)) (C := RX2) (T := TX2) (N := 13) hx hb hts in_X2 hown hK hP 21 (aD_21 _ _ _ _ _ _ _) rfl 3 (by decide) (hts _ q781) (fun _ h9 => h9) rfl dX2_takes_91 ?_
  refine li_iconst hx hb dX2_takes_94 ?_
  refine lv_aload_n hx hb dX2_takes_95 rfl (lv_at hl 0 rfl) ?_
  refine va_get (D := G) (ci := 1) (v := .ref (ad 5)) (C := RX2) (T := TX2) (N := 13) hx hb hts in_X2 hown hK hP 1 (aD_1 _ _ _ _ _ _ _) rfl 3 (by decide) (hts _ q781) (fun _ h9 => h9) rfl dX2_takes_96 ?_
  refine li_iconst hx hb dX2_takes_99 ?_
  refine li_iconst hx hb dX2_takes_100 ?_
  refine li_copy (k := 5) (g := (σ 43)) (h := (σ 3)) (W2 := wD ad ty hv (up (up (up (up (up (up (up (up (up (up σ 8 (sc (σ 48 0))) 9 (sc (σ 49 0))) 10 (sc (σ 50 0))) 11 (sc (σ 51 0))) 12 (sc (σ 52 0))) 13 (sc (σ 53 0))) 0 (cp (σ 40) (σ 0) 5)) 1 (cp (σ 41) (σ 1) 5)) 2 (cp (σ 42) (σ 2) 5)) 3 (cp (σ 43) (σ 3) 5)) ς κ ++ cs) hx hb (hml.trans hl.1.symm) hown (hts _ q130) (hts _ q132) (hts _ q131) (hts _ q88) hK hP hD hS 25 5 1 (aD_25 _ _ _ _ _ _ _) (aD_5 _ _ _ _ _ _ _) rfl rfl (by decide) (by decide) (by decide) (fun i => fit_z (by have := hz3 i; omega)) rfl (Nat.le_of_ble_eq_true rfl) (Nat.le_of_ble_eq_true rfl) dX2_takes_101 (fun H locs hP hD hS => ?_)
  refine lv_aload_n hx hb dX2_takes_104 rfl (lv_at hl 1 rfl) ?_
  refine va_get (D := G) (ci := 1) (v := .ref (ad 26)) (C := RX2) (T := TX2) (N := 13) hx hb hts in_X2 hown hK hP 21 (aD_21 _ _ _ _ _ _ _) rfl 5 (by decide) (hts _ q786) (fun _ h9 => h9) rfl dX2_takes_105 ?_
  refine li_iconst hx hb dX2_takes_108 ?_
  refine lv_aload_n hx hb dX2_takes_109 rfl (lv_at hl 0 rfl) ?_
  refine va_get (D := G) (ci := 1) (v := .ref (ad 6)) (C := RX2) (T := TX2) (N := 13) hx hb hts in_X2 hown hK hP 1 (aD_1 _ _ _ _ _ _ _) rfl 5 (by decide) (hts _ q786) (fun _ h9 => h9) rfl dX2_takes_110 ?_
  refine li_iconst hx hb dX2_takes_113 ?_
  refine li_iconst hx hb dX2_takes_114 ?_
  refine li_copy (k := 3) (g := (σ 44)) (h := (σ 4)) (W2 := wD ad ty hv (up (up (up (up (up (up (up (up (up (up (up σ 8 (sc (σ 48 0))) 9 (sc (σ 49 0))) 10 (sc (σ 50 0))) 11 (sc (σ 51 0))) 12 (sc (σ 52 0))) 13 (sc (σ 53 0))) 0 (cp (σ 40) (σ 0) 5)) 1 (cp (σ 41) (σ 1) 5)) 2 (cp (σ 42) (σ 2) 5)) 3 (cp (σ 43) (σ 3) 5)) 4 (cp (σ 44) (σ 4) 3)) ς κ ++ cs) hx hb (hml.trans hl.1.symm) hown (hts _ q130) (hts _ q132) (hts _ q131) (hts _ q88) hK hP hD hS 26 6 0 (aD_26 _ _ _ _ _ _ _) (aD_6 _ _ _ _ _ _ _) rfl rfl (by decide) (by decide) (by decide) (fun _ => rfl) rfl (Nat.le_of_ble_eq_true rfl) (Nat.le_of_ble_eq_true rfl) dX2_takes_115 (fun H locs hP hD hS => ?_)
  refine lv_aload_n hx hb dX2_takes_118 rfl (lv_at hl 1 rfl) ?_
  refine va_get (D := G) (ci := 1) (v := .ref (ad 27)) (C := RX2) (T := TX2) (N := 13) hx hb hts in_X2 hown hK hP 21 (aD_21 _ _ _ _ _ _ _) rfl 7 (by decide) (hts _ q794) (fun _ h9 => h9) rfl dX2_takes_119 ?_
  refine li_iconst hx hb dX2_takes_122 ?_
  refine lv_aload_n hx hb dX2_takes_123 rfl (lv_at hl 0 rfl) ?_
  refine va_get (D := G) (ci := 1) (v := .ref (ad 7)) (C := RX2) (T := TX2) (N := 13) hx hb hts in_X2 hown hK hP 1 (aD_1 _ _ _ _ _ _ _) rfl 7 (by decide) (hts _ q794) (fun _ h9 => h9) rfl dX2_takes_124 ?_
  refine li_iconst hx hb dX2_takes_127 ?_
  refine li_iconst hx hb dX2_takes_128 ?_
  refine li_copy (k := 2) (g := (σ 45)) (h := (σ 5)) (W2 := wD ad ty hv (up (up (up (up (up (up (up (up (up (up (up (up σ 8 (sc (σ 48 0))) 9 (sc (σ 49 0))) 10 (sc (σ 50 0))) 11 (sc (σ 51 0))) 12 (sc (σ 52 0))) 13 (sc (σ 53 0))) 0 (cp (σ 40) (σ 0) 5)) 1 (cp (σ 41) (σ 1) 5)) 2 (cp (σ 42) (σ 2) 5)) 3 (cp (σ 43) (σ 3) 5)) 4 (cp (σ 44) (σ 4) 3)) 5 (cp (σ 45) (σ 5) 2)) ς κ ++ cs) hx hb (hml.trans hl.1.symm) hown (hts _ q130) (hts _ q132) (hts _ q131) (hts _ q88) hK hP hD hS 27 7 0 (aD_27 _ _ _ _ _ _ _) (aD_7 _ _ _ _ _ _ _) rfl rfl (by decide) (by decide) (by decide) (fun _ => rfl) rfl (Nat.le_of_ble_eq_true rfl) (Nat.le_of_ble_eq_true rfl) dX2_takes_129 (fun H locs hP hD hS => ?_)
  refine lv_aload_n hx hb dX2_takes_132 rfl (lv_at hl 0 rfl) ?_
  refine va_get (D := G) (ci := 1) (v := .ref (ad 8)) (C := RX2) (T := TX2) (N := 13) hx hb hts in_X2 hown hK hP 1 (aD_1 _ _ _ _ _ _ _) rfl 12 (by decide) (hts _ q809) (fun _ h9 => h9) rfl dX2_takes_133 ?_
  refine lv_aload_n hx hb dX2_takes_136 rfl (lv_at hl 1 rfl) ?_
  refine va_get (D := G) (ci := 1) (v := .ref (ad 28)) (C := RX2) (T := TX2) (N := 13) hx hb hts in_X2 hown hK hP 21 (aD_21 _ _ _ _ _ _ _) rfl 12 (by decide) (hts _ q809) (fun _ h9 => h9) rfl dX2_takes_137 ?_
  refine kM (va_runV (As := [.ref (ad 28)]) (rest := []) ⟨hx, hb, hml, hown, hts⟩ (m_takesS l G ty (wD ad ty hv (up (up (up (up (up (up (up (up (up (up (up (up σ 8 (sc (σ 48 0))) 9 (sc (σ 49 0))) 10 (sc (σ 50 0))) 11 (sc (σ 51 0))) 12 (sc (σ 52 0))) 13 (sc (σ 53 0))) 0 (cp (σ 40) (σ 0) 5)) 1 (cp (σ 41) (σ 1) 5)) 2 (cp (σ 42) (σ 2) 5)) 3 (cp (σ 43) (σ 3) 5)) 4 (cp (σ 44) (σ 4) 3)) 5 (cp (σ 45) (σ 5) 2)) ς κ ++ cs) (fun k => 8 + k) (fun k => ad (8 + k)) (σ 6) (σ 7) (fun k => 28 + k) (fun k => ad (28 + k)) (σ 46) (σ 47) ⟨rfl, rfl, rfl⟩ ⟨rfl, rfl, rfl⟩ (by decide) (by decide) (by decide) (by decide) (by decide) (by decide) (by decide) (by decide) (by decide) (by decide) H.size) (cwV 1 hts (lw_V q133 q134 q135 q78 q136) rfl rfl rfl (by decide +kernel) ⟨Nat.le_of_ble_eq_true rfl, Nat.le_of_ble_eq_true rfl⟩) (pvM (r := (RX3, TX3, 2)) hK hP hD hX 8 (aD_8 _ _ _ _ _ _ _) rfl) rfl rfl hl.1 rfl (lv_room (Nat.le_of_ble_eq_true rfl)) dX2_takes_140 ⟨Nat.le_of_ble_eq_true rfl, Nat.le_of_ble_eq_true rfl⟩) hD hS hA (fun v ws1 H locs hv hP hD hS => ?_)
  obtain ⟨rfl, rfl⟩ := hv
  have hP : va_P G gcl (wD ad ty hv (up (up (up (up (up (up (up (up (up (up (up (up (up (up σ 8 (sc (σ 48 0))) 9 (sc (σ 49 0))) 10 (sc (σ 50 0))) 11 (sc (σ 51 0))) 12 (sc (σ 52 0))) 13 (sc (σ 53 0))) 0 (cp (σ 40) (σ 0) 5)) 1 (cp (σ 41) (σ 1) 5)) 2 (cp (σ 42) (σ 2) 5)) 3 (cp (σ 43) (σ 3) 5)) 4 (cp (σ 44) (σ 4) 3)) 5 (cp (σ 45) (σ 5) 2)) 6 (cp (σ 46) (σ 6) 3)) 7 (cp (σ 47) (σ 7) 2)) ς κ ++ cs) H := hP
  have hD : va_D A (wD ad ty hv (up (up (up (up (up (up (up (up (up (up (up (up (up (up σ 8 (sc (σ 48 0))) 9 (sc (σ 49 0))) 10 (sc (σ 50 0))) 11 (sc (σ 51 0))) 12 (sc (σ 52 0))) 13 (sc (σ 53 0))) 0 (cp (σ 40) (σ 0) 5)) 1 (cp (σ 41) (σ 1) 5)) 2 (cp (σ 42) (σ 2) 5)) 3 (cp (σ 43) (σ 3) 5)) 4 (cp (σ 44) (σ 4) 3)) 5 (cp (σ 45) (σ 5) 2)) 6 (cp (σ 46) (σ 6) 3)) 7 (cp (σ 47) (σ 7) 2)) ς κ ++ cs) := hD
  exact eMv hQ hx hb hr hlk hP hD hS (Nat.le_of_ble_eq_true rfl) (Nat.le_of_ble_eq_true rfl) dX2_takes_143 (⟨rfl, rfl⟩)
set_option maxHeartbeats 4000000 in
theorem m_takesF_11_1 (l : Launch) (G : va_G) (ad : Nat → Nat) (ty : Nat → ClassId) (hv : Nat → Option Nat) (σ ς κ : mem) (cs : va_W)   (hz3 : ∀ i, 0 ≤ (σ 3) i ∧ (σ 3) i ≤ 1) : cM l yX2_takes (ws_ yX2_takes cX2_takes 2 none) (rm4 2 0 0 80) G ty (wD ad ty hv σ ς κ ++ cs) [.ref (ad 11), .ref (ad 1)] 0 0 (fun r W' => r = none ∧ W' = wD ad ty hv (up (up (up (up (up (up (up (up (up (up (up (up (up (up σ 28 (sc ((σ 8 0)))) 29 (sc ((σ 9 0)))) 30 (sc ((σ 10 0)))) 31 (sc ((σ 11 0)))) 32 (sc ((σ 12 0)))) 33 (sc ((σ 13 0)))) 20 (cp (σ 0) (σ 20) 5)) 21 (cp (σ 1) (σ 21) 5)) 22 (cp (σ 2) (σ 22) 5)) 23 (cp (σ 3) (σ 23) 5)) 24 (cp (σ 4) (σ 24) 3)) 25 (cp (σ 5) (σ 25) 2)) 26 (cp (σ 6) (σ 26) 3)) 27 (cp (σ 7) (σ 27) 2)) ς κ ++ cs) := by
  refine cM.of (by decide) (Nat.le_of_ble_eq_true rfl) ?_
  intro p e s m args below meth c A Q H locs hQ hx hb hr hml hown hlk hname hts hK hP hD hS hA hX ls hl
  have hl : lv_has ls 2 [(0, .ref (ad 11)), (1, .ref (ad 1))] := hl
  refine lv_aload_n hx hb dX2_takes_0 rfl (lv_at hl 0 rfl) ?_
  refine lv_aload_n hx hb dX2_takes_1 rfl (lv_at hl 1 rfl) ?_
  refine va_get (D := G) (ci := 1) (v := .int (ii (σ 8 0))) (C := RX2) (T := TX2) (N := 13) hx hb hts in_X2 hown hK hP 1 (aD_1 _ _ _ _ _ _ _) rfl 4 (by decide) (hts _ q784) (fun _ h9 => h9) rfl dX2_takes_2 ?_
  refine va_put (D := G) (ci := 1) (v := .int (ii (σ 8 0))) (ty := .int) (C := RX2) (T := TX2) (N := 13) hx hb hts in_X2 tyX2 tyX2_ok nmX2 hown hK hP hD hS 11 (aD_11 _ _ _ _ _ _ _) rfl 4 (by decide) (hts _ q784) (fun _ h9 => h9) rfl (tyX2_ok 4 (by decide)) rfl rfl (Nat.le_of_ble_eq_true rfl) dX2_takes_5 (fun H locs hP hD hS => ?_)
  have hP : va_P G gcl (wD ad ty hv (up σ 28 (sc (σ 8 0))) ς κ ++ cs) H := hP
  have hD : va_D A (wD ad ty hv (up σ 28 (sc (σ 8 0))) ς κ ++ cs) := hD
  refine lv_aload_n hx hb dX2_takes_8 rfl (lv_at hl 0 rfl) ?_
  refine lv_aload_n hx hb dX2_takes_9 rfl (lv_at hl 1 rfl) ?_
  refine va_get (D := G) (ci := 1) (v := .int (ii (σ 9 0))) (C := RX2) (T := TX2) (N := 13) hx hb hts in_X2 hown hK hP 1 (aD_1 _ _ _ _ _ _ _) rfl 6 (by decide) (hts _ q791) (fun _ h9 => h9) rfl dX2_takes_10 ?_
  refine va_put (D := G) (ci := 1) (v := .int (ii (σ 9 0))) (ty := .int) (C := RX2) (T := TX2) (N := 13) hx hb hts in_X2 tyX2 tyX2_ok nmX2 hown hK hP hD hS 11 (aD_11 _ _ _ _ _ _ _) rfl 6 (by decide) (hts _ q791) (fun _ h9 => h9) rfl (tyX2_ok 6 (by decide)) rfl rfl (Nat.le_of_ble_eq_true rfl) dX2_takes_13 (fun H locs hP hD hS => ?_)
  have hP : va_P G gcl (wD ad ty hv (up (up σ 28 (sc (σ 8 0))) 29 (sc (σ 9 0))) ς κ ++ cs) H := hP
  have hD : va_D A (wD ad ty hv (up (up σ 28 (sc (σ 8 0))) 29 (sc (σ 9 0))) ς κ ++ cs) := hD
  refine lv_aload_n hx hb dX2_takes_16 rfl (lv_at hl 0 rfl) ?_
  refine lv_aload_n hx hb dX2_takes_17 rfl (lv_at hl 1 rfl) ?_
  refine va_get (D := G) (ci := 1) (v := .int (ii (σ 10 0))) (C := RX2) (T := TX2) (N := 13) hx hb hts in_X2 hown hK hP 1 (aD_1 _ _ _ _ _ _ _) rfl 8 (by decide) (hts _ q800) (fun _ h9 => h9) rfl dX2_takes_18 ?_
  refine va_put (D := G) (ci := 1) (v := .int (ii (σ 10 0))) (ty := .int) (C := RX2) (T := TX2) (N := 13) hx hb hts in_X2 tyX2 tyX2_ok nmX2 hown hK hP hD hS 11 (aD_11 _ _ _ _ _ _ _) rfl 8 (by decide) (hts _ q800) (fun _ h9 => h9) rfl (tyX2_ok 8 (by decide)) rfl rfl (Nat.le_of_ble_eq_true rfl) dX2_takes_21 (fun H locs hP hD hS => ?_)
  have hP : va_P G gcl (wD ad ty hv (up (up (up σ 28 (sc (σ 8 0))) 29 (sc (σ 9 0))) 30 (sc (σ 10 0))) ς κ ++ cs) H := hP
  have hD : va_D A (wD ad ty hv (up (up (up σ 28 (sc (σ 8 0))) 29 (sc (σ 9 0))) 30 (sc (σ 10 0))) ς κ ++ cs) := hD
  refine lv_aload_n hx hb dX2_takes_24 rfl (lv_at hl 0 rfl) ?_
  refine lv_aload_n hx hb dX2_takes_25 rfl (lv_at hl 1 rfl) ?_
  refine va_get (D := G) (ci := 1) (v := .int (ii (σ 11 0))) (C := RX2) (T := TX2) (N := 13) hx hb hts in_X2 hown hK hP 1 (aD_1 _ _ _ _ _ _ _) rfl 9 (by decide) (hts _ q803) (fun _ h9 => h9) rfl dX2_takes_26 ?_
  refine va_put (D := G) (ci := 1) (v := .int (ii (σ 11 0))) (ty := .int) (C := RX2) (T := TX2) (N := 13) hx hb hts in_X2 tyX2 tyX2_ok nmX2 hown hK hP hD hS 11 (aD_11 _ _ _ _ _ _ _) rfl 9 (by decide) (hts _ q803) (fun _ h9 => h9) rfl (tyX2_ok 9 (by decide)) rfl rfl (Nat.le_of_ble_eq_true rfl) dX2_takes_29 (fun H locs hP hD hS => ?_)
  have hP : va_P G gcl (wD ad ty hv (up (up (up (up σ 28 (sc (σ 8 0))) 29 (sc (σ 9 0))) 30 (sc (σ 10 0))) 31 (sc (σ 11 0))) ς κ ++ cs) H := hP
  have hD : va_D A (wD ad ty hv (up (up (up (up σ 28 (sc (σ 8 0))) 29 (sc (σ 9 0))) 30 (sc (σ 10 0))) 31 (sc (σ 11 0))) ς κ ++ cs) := hD
  refine lv_aload_n hx hb dX2_takes_32 rfl (lv_at hl 0 rfl) ?_
  refine lv_aload_n hx hb dX2_takes_33 rfl (lv_at hl 1 rfl) ?_
  refine va_get (D := G) (ci := 1) (v := .int (ii (σ 12 0))) (C := RX2) (T := TX2) (N := 13) hx hb hts in_X2 hown hK hP 1 (aD_1 _ _ _ _ _ _ _) rfl 10 (by decide) (hts _ q805) (fun _ h9 => h9) rfl dX2_takes_34 ?_
  refine va_put (D := G) (ci := 1) (v := .int (ii (σ 12 0))) (ty := .int) (C := RX2) (T := TX2) (N := 13) hx hb hts in_X2 tyX2 tyX2_ok nmX2 hown hK hP hD hS 11 (aD_11 _ _ _ _ _ _ _) rfl 10 (by decide) (hts _ q805) (fun _ h9 => h9) rfl (tyX2_ok 10 (by decide)) rfl rfl (Nat.le_of_ble_eq_true rfl) dX2_takes_37 (fun H locs hP hD hS => ?_)
  have hP : va_P G gcl (wD ad ty hv (up (up (up (up (up σ 28 (sc (σ 8 0))) 29 (sc (σ 9 0))) 30 (sc (σ 10 0))) 31 (sc (σ 11 0))) 32 (sc (σ 12 0))) ς κ ++ cs) H := hP
  have hD : va_D A (wD ad ty hv (up (up (up (up (up σ 28 (sc (σ 8 0))) 29 (sc (σ 9 0))) 30 (sc (σ 10 0))) 31 (sc (σ 11 0))) 32 (sc (σ 12 0))) ς κ ++ cs) := hD
  refine lv_aload_n hx hb dX2_takes_40 rfl (lv_at hl 0 rfl) ?_
  refine lv_aload_n hx hb dX2_takes_41 rfl (lv_at hl 1 rfl) ?_
  refine va_get (D := G) (ci := 1) (v := .int (ii (σ 13 0))) (C := RX2) (T := TX2) (N := 13) hx hb hts in_X2 hown hK hP 1 (aD_1 _ _ _ _ _ _ _) rfl 11 (by decide) (hts _ q807) (fun _ h9 => h9) rfl dX2_takes_42 ?_
  refine va_put (D := G) (ci := 1) (v := .int (ii (σ 13 0))) (ty := .int) (C := RX2) (T := TX2) (N := 13) hx hb hts in_X2 tyX2 tyX2_ok nmX2 hown hK hP hD hS 11 (aD_11 _ _ _ _ _ _ _) rfl 11 (by decide) (hts _ q807) (fun _ h9 => h9) rfl (tyX2_ok 11 (by decide)) rfl rfl (Nat.le_of_ble_eq_true rfl) dX2_takes_45 (fun H locs hP hD hS => ?_)
  have hP : va_P G gcl (wD ad ty hv (up (up (up (up (up (up σ 28 (sc (σ 8 0))) 29 (sc (σ 9 0))) 30 (sc (σ 10 0))) 31 (sc (σ 11 0))) 32 (sc (σ 12 0))) 33 (sc (σ 13 0))) ς κ ++ cs) H := hP
  have hD : va_D A (wD ad ty hv (up (up (up (up (up (up σ 28 (sc (σ 8 0))) 29 (sc (σ 9 0))) 30 (sc (σ 10 0))) 31 (sc (σ 11 0))) 32 (sc (σ 12 0))) 33 (sc (σ 13 0))) ς κ ++ cs) := hD
  refine lv_aload_n hx hb dX2_takes_48 rfl (lv_at hl 1 rfl) ?_
  refine va_get (D := G) (ci := 1) (v := .ref (ad 2)) (C := RX2) (T := TX2) (N := 13) hx hb hts in_X2 hown hK hP 1 (aD_1 _ _ _ _ _ _ _) rfl 0 (by decide) (hts _ q771) (fun _ h9 => h9) rfl dX2_takes_49 ?_
  refine li_iconst hx hb dX2_takes_52 ?_
  refine lv_aload_n hx hb dX2_takes_53 rfl (lv_at hl 0 rfl) ?_
  refine va_get (D := G) (ci := 1) (v := .ref (ad 12)) (C := RX2) (T := TX2) (N := 13) hx hb hts in_X2 hown hK hP 11 (aD_11 _ _ _ _ _ _ _) rfl 0 (by decide) (hts _ q771) (fun _ h9 => h9) rfl dX2_takes_54 ?_
  refine li_iconst hx hb dX2_takes_57 ?_
  refine li_iconst hx hb dX2_takes_58 ?_
  refine li_copy (k := 5) (g := (σ 0)) (h := (σ 20)) (W2 := wD ad ty hv (up (up (up (up (up (up (up σ 28 (sc (σ 8 0))) 29 (sc (σ 9 0))) 30 (sc (σ 10 0))) 31 (sc (σ 11 0))) 32 (sc (σ 12 0))) 33 (sc (σ 13 0))) 20 (cp (σ 0) (σ 20) 5)) ς κ ++ cs) hx hb (hml.trans hl.1.symm) hown (hts _ q130) (hts _ q132) (hts _ q131) (hts _ q88) hK hP hD hS 2 12 0 (aD_2 _ _ _ _ _ _ _) (aD_12 _ _ _ _ _ _ _) rfl rfl (by decide) (by decide) (by decide) (fun _ => rfl) rfl (Nat.le_of_ble_eq_true rfl) (Nat.le_of_ble_eq_true rfl) dX2_takes_59 (fun H locs hP hD hS => ?_)
  refine lv_aload_n hx hb dX2_takes_62 rfl (lv_at hl 1 rfl) ?_
  refine va_get (D := G) (ci := 1) (v := .ref (ad 3)) (C := RX2) (T := TX2) (N := 13) hx hb hts in_X2 hown hK hP 1 (aD_1 _ _ _ _ _ _ _) rfl 1 (by decide) (hts _ q774) (fun _ h9 => h9) rfl dX2_takes_63 ?_
  refine li_iconst hx hb dX2_takes_66 ?_
  refine lv_aload_n hx hb dX2_takes_67 rfl (lv_at hl 0 rfl) ?_
  refine va_get (D := G) (ci := 1) (v := .ref (ad 13)) (C := RX2) (T := TX2) (N := 13) hx hb hts in_X2 hown hK hP 11 (aD_11 _ _ _ _ _ _ _) rfl 1 (by decide) (hts _ q774) (fun _ h9 => h9) rfl dX2_takes_68 ?_
  refine li_iconst hx hb dX2_takes_71 ?_
  refine li_iconst hx hb dX2_takes_72 ?_
  refine li_copy (k := 5) (g := (σ 1)) (h := (σ 21)) (W2 := wD ad ty hv (up (up (up (up (up (up (up (up σ 28 (sc (σ 8 0))) 29 (sc (σ 9 0))) 30 (sc (σ 10 0))) 31 (sc (σ 11 0))) 32 (sc (σ 12 0))) 33 (sc (σ 13 0))) 20 (cp (σ 0) (σ 20) 5)) 21 (cp (σ 1) (σ 21) 5)) ς κ ++ cs) hx hb (hml.trans hl.1.symm) hown (hts _ q130) (hts _ q132) (hts _ q131) (hts _ q88) hK hP hD hS 3 13 0 (aD_3 _ _ _ _ _ _ _) (aD_13 _ _ _ _ _ _ _) rfl rfl (by decide) (by decide) (by decide) (fun _ => rfl) rfl (Nat.le_of_ble_eq_true rfl) (Nat.le_of_ble_eq_true rfl) dX2_takes_73 (fun H locs hP hD hS => ?_)
  refine lv_aload_n hx hb dX2_takes_76 rfl (lv_at hl 1 rfl) ?_
  refine va_get (D := G) (ci := 1) (v := .ref (ad 4)) (C := RX2) (T := TX2) (N := 13) hx hb hts in_X2 hown hK hP 1 (aD_1 _ _ _ _ _ _ _) rfl 2 (by decide) (hts _ q778) (fun _ h9 => h9) rfl dX2_takes_77 ?_
  refine li_iconst hx hb dX2_takes_80 ?_
  refine lv_aload_n hx hb dX2_takes_81 rfl (lv_at hl 0 rfl) ?_
  refine va_get (D := G) (ci := 1) (v := .ref (ad 14)) (C := RX2) (T := TX2) (N := 13) hx hb hts in_X2 hown hK hP 11 (aD_11 _ _ _ _ _ _ _) rfl 2 (by decide) (hts _ q778) (fun _ h9 => h9) rfl dX2_takes_82 ?_
  refine li_iconst hx hb dX2_takes_85 ?_
  refine li_iconst hx hb dX2_takes_86 ?_
  refine li_copy (k := 5) (g := (σ 2)) (h := (σ 22)) (W2 := wD ad ty hv (up (up (up (up (up (up (up (up (up σ 28 (sc (σ 8 0))) 29 (sc (σ 9 0))) 30 (sc (σ 10 0))) 31 (sc (σ 11 0))) 32 (sc (σ 12 0))) 33 (sc (σ 13 0))) 20 (cp (σ 0) (σ 20) 5)) 21 (cp (σ 1) (σ 21) 5)) 22 (cp (σ 2) (σ 22) 5)) ς κ ++ cs) hx hb (hml.trans hl.1.symm) hown (hts _ q130) (hts _ q132) (hts _ q131) (hts _ q88) hK hP hD hS 4 14 0 (aD_4 _ _ _ _ _ _ _) (aD_14 _ _ _ _ _ _ _) rfl rfl (by decide) (by decide) (by decide) (fun _ => rfl) rfl (Nat.le_of_ble_eq_true rfl) (Nat.le_of_ble_eq_true rfl) dX2_takes_87 (fun H locs hP hD hS => ?_)
  refine lv_aload_n hx hb dX2_takes_90 rfl (lv_at hl 1 rfl) ?_
  refine va_get (D := G) (ci := 1) (v := .ref (ad 5)) (C := RX2) (T := TX2) (N := 13) hx hb hts in_X2 hown hK hP 1 (aD_1 _ _ _ _ _ _ _) rfl 3 (by decide) (hts _ q781) (fun _ h9 => h9) rfl dX2_takes_91 ?_
  refine li_iconst hx hb dX2_takes_94 ?_
  refine lv_aload_n hx hb dX2_takes_95 rfl (lv_at hl 0 rfl) ?_
  refine va_get (D := G) (ci := 1) (v := .ref (ad 15)) (C := RX2) (T := TX2) (N := 13) hx hb hts in_X2 hown hK hP 11 (aD_11 _ _ _ _ _ _ _) rfl 3 (by decide) (hts _ q781) (fun _ h9 => h9) rfl dX2_takes_96 ?_
  refine li_iconst hx hb dX2_takes_99 ?_
  refine li_iconst hx hb dX2_takes_100 ?_
  refine li_copy (k := 5) (g := (σ 3)) (h := (σ 23)) (W2 := wD ad ty hv (up (up (up (up (up (up (up (up (up (up σ 28 (sc (σ 8 0))) 29 (sc (σ 9 0))) 30 (sc (σ 10 0))) 31 (sc (σ 11 0))) 32 (sc (σ 12 0))) 33 (sc (σ 13 0))) 20 (cp (σ 0) (σ 20) 5)) 21 (cp (σ 1) (σ 21) 5)) 22 (cp (σ 2) (σ 22) 5)) 23 (cp (σ 3) (σ 23) 5)) ς κ ++ cs) hx hb (hml.trans hl.1.symm) hown (hts _ q130) (hts _ q132) (hts _ q131) (hts _ q88) hK hP hD hS 5 15 1 (aD_5 _ _ _ _ _ _ _) (aD_15 _ _ _ _ _ _ _) rfl rfl (by decide) (by decide) (by decide) (fun i => fit_z (by have := hz3 i; omega)) rfl (Nat.le_of_ble_eq_true rfl) (Nat.le_of_ble_eq_true rfl) dX2_takes_101 (fun H locs hP hD hS => ?_)
  refine lv_aload_n hx hb dX2_takes_104 rfl (lv_at hl 1 rfl) ?_
  refine va_get (D := G) (ci := 1) (v := .ref (ad 6)) (C := RX2) (T := TX2) (N := 13) hx hb hts in_X2 hown hK hP 1 (aD_1 _ _ _ _ _ _ _) rfl 5 (by decide) (hts _ q786) (fun _ h9 => h9) rfl dX2_takes_105 ?_
  refine li_iconst hx hb dX2_takes_108 ?_
  refine lv_aload_n hx hb dX2_takes_109 rfl (lv_at hl 0 rfl) ?_
  refine va_get (D := G) (ci := 1) (v := .ref (ad 16)) (C := RX2) (T := TX2) (N := 13) hx hb hts in_X2 hown hK hP 11 (aD_11 _ _ _ _ _ _ _) rfl 5 (by decide) (hts _ q786) (fun _ h9 => h9) rfl dX2_takes_110 ?_
  refine li_iconst hx hb dX2_takes_113 ?_
  refine li_iconst hx hb dX2_takes_114 ?_
  refine li_copy (k := 3) (g := (σ 4)) (h := (σ 24)) (W2 := wD ad ty hv (up (up (up (up (up (up (up (up (up (up (up σ 28 (sc (σ 8 0))) 29 (sc (σ 9 0))) 30 (sc (σ 10 0))) 31 (sc (σ 11 0))) 32 (sc (σ 12 0))) 33 (sc (σ 13 0))) 20 (cp (σ 0) (σ 20) 5)) 21 (cp (σ 1) (σ 21) 5)) 22 (cp (σ 2) (σ 22) 5)) 23 (cp (σ 3) (σ 23) 5)) 24 (cp (σ 4) (σ 24) 3)) ς κ ++ cs) hx hb (hml.trans hl.1.symm) hown (hts _ q130) (hts _ q132) (hts _ q131) (hts _ q88) hK hP hD hS 6 16 0 (aD_6 _ _ _ _ _ _ _) (aD_16 _ _ _ _ _ _ _) rfl rfl (by decide) (by decide) (by decide) (fun _ => rfl) rfl (Nat.le_of_ble_eq_true rfl) (Nat.le_of_ble_eq_true rfl) dX2_takes_115 (fun H locs hP hD hS => ?_)
  refine lv_aload_n hx hb dX2_takes_118 rfl (lv_at hl 1 rfl) ?_
  refine va_get (D := G) (ci := 1) (v := .ref (ad 7)) (C := RX2) (T := TX2) (N := 13) hx hb hts in_X2 hown hK hP 1 (aD_1 _ _ _ _ _ _ _) rfl 7 (by decide) (hts _ q794) (fun _ h9 => h9) rfl dX2_takes_119 ?_
  refine li_iconst hx hb dX2_takes_122 ?_
  refine lv_aload_n hx hb dX2_takes_123 rfl (lv_at hl 0 rfl) ?_
  refine va_get (D := G) (ci := 1) (v := .ref (ad 17)) (C := RX2) (T := TX2) (N := 13) hx hb hts in_X2 hown hK hP 11 (aD_11 _ _ _ _ _ _ _) rfl 7 (by decide) (hts _ q794) (fun _ h9 => h9) rfl dX2_takes_124 ?_
  refine li_iconst hx hb dX2_takes_127 ?_
  refine li_iconst hx hb dX2_takes_128 ?_
  refine li_copy (k := 2) (g := (σ 5)) (h := (σ 25)) (W2 := wD ad ty hv (up (up (up (up (up (up (up (up (up (up (up (up σ 28 (sc (σ 8 0))) 29 (sc (σ 9 0))) 30 (sc (σ 10 0))) 31 (sc (σ 11 0))) 32 (sc (σ 12 0))) 33 (sc (σ 13 0))) 20 (cp (σ 0) (σ 20) 5)) 21 (cp (σ 1) (σ 21) 5)) 22 (cp (σ 2) (σ 22) 5)) 23 (cp (σ 3) (σ 23) 5)) 24 (cp (σ 4) (σ 24) 3)) 25 (cp (σ 5) (σ 25) 2)) ς κ ++ cs) hx hb (hml.trans hl.1.symm) hown (hts _ q130) (hts _ q132) (hts _ q131) (hts _ q88) hK hP hD hS 7 17 0 (aD_7 _ _ _ _ _ _ _) (aD_17 _ _ _ _ _ _ _) rfl rfl (by decide) (by decide) (by decide) (fun _ => rfl) rfl (Nat.le_of_ble_eq_true rfl) (Nat.le_of_ble_eq_true rfl) dX2_takes_129 (fun H locs hP hD hS => ?_)
  refine lv_aload_n hx hb dX2_takes_132 rfl (lv_at hl 0 rfl) ?_
  refine va_get (D := G) (ci := 1) (v := .ref (ad 18)) (C := RX2) (T := TX2) (N := 13) hx hb hts in_X2 hown hK hP 11 (aD_11 _ _ _ _ _ _ _) rfl 12 (by decide) (hts _ q809) (fun _ h9 => h9) rfl dX2_takes_133 ?_
  refine lv_aload_n hx hb dX2_takes_136 rfl (lv_at hl 1 rfl) ?_
  refine va_get (D := G) (ci := 1) (v := .ref (ad 8)) (C := RX2) (T := TX2) (N := 13) hx hb hts in_X2 hown hK hP 1 (aD_1 _ _ _ _ _ _ _) rfl 12 (by decide) (hts _ q809) (fun _ h9 => h9) rfl dX2_takes_137 ?_
  refine kM (va_runV (As := [.ref (ad 8)]) (rest := []) ⟨hx, hb, hml, hown, hts⟩ (m_takesS l G ty (wD ad ty hv (up (up (up (up (up (up (up (up (up (up (up (up σ 28 (sc (σ 8 0))) 29 (sc (σ 9 0))) 30 (sc (σ 10 0))) 31 (sc (σ 11 0))) 32 (sc (σ 12 0))) 33 (sc (σ 13 0))) 20 (cp (σ 0) (σ 20) 5)) 21 (cp (σ 1) (σ 21) 5)) 22 (cp (σ 2) (σ 22) 5)) 23 (cp (σ 3) (σ 23) 5)) 24 (cp (σ 4) (σ 24) 3)) 25 (cp (σ 5) (σ 25) 2)) ς κ ++ cs) (fun k => 18 + k) (fun k => ad (18 + k)) (σ 26) (σ 27) (fun k => 8 + k) (fun k => ad (8 + k)) (σ 6) (σ 7) ⟨rfl, rfl, rfl⟩ ⟨rfl, rfl, rfl⟩ (by decide) (by decide) (by decide) (by decide) (by decide) (by decide) (by decide) (by decide) (by decide) (by decide) H.size) (cwV 1 hts (lw_V q133 q134 q135 q78 q136) rfl rfl rfl (by decide +kernel) ⟨Nat.le_of_ble_eq_true rfl, Nat.le_of_ble_eq_true rfl⟩) (pvM (r := (RX3, TX3, 2)) hK hP hD hX 18 (aD_18 _ _ _ _ _ _ _) rfl) rfl rfl hl.1 rfl (lv_room (Nat.le_of_ble_eq_true rfl)) dX2_takes_140 ⟨Nat.le_of_ble_eq_true rfl, Nat.le_of_ble_eq_true rfl⟩) hD hS hA (fun v ws1 H locs hv hP hD hS => ?_)
  obtain ⟨rfl, rfl⟩ := hv
  have hP : va_P G gcl (wD ad ty hv (up (up (up (up (up (up (up (up (up (up (up (up (up (up σ 28 (sc (σ 8 0))) 29 (sc (σ 9 0))) 30 (sc (σ 10 0))) 31 (sc (σ 11 0))) 32 (sc (σ 12 0))) 33 (sc (σ 13 0))) 20 (cp (σ 0) (σ 20) 5)) 21 (cp (σ 1) (σ 21) 5)) 22 (cp (σ 2) (σ 22) 5)) 23 (cp (σ 3) (σ 23) 5)) 24 (cp (σ 4) (σ 24) 3)) 25 (cp (σ 5) (σ 25) 2)) 26 (cp (σ 6) (σ 26) 3)) 27 (cp (σ 7) (σ 27) 2)) ς κ ++ cs) H := hP
  have hD : va_D A (wD ad ty hv (up (up (up (up (up (up (up (up (up (up (up (up (up (up σ 28 (sc (σ 8 0))) 29 (sc (σ 9 0))) 30 (sc (σ 10 0))) 31 (sc (σ 11 0))) 32 (sc (σ 12 0))) 33 (sc (σ 13 0))) 20 (cp (σ 0) (σ 20) 5)) 21 (cp (σ 1) (σ 21) 5)) 22 (cp (σ 2) (σ 22) 5)) 23 (cp (σ 3) (σ 23) 5)) 24 (cp (σ 4) (σ 24) 3)) 25 (cp (σ 5) (σ 25) 2)) 26 (cp (σ 6) (σ 26) 3)) 27 (cp (σ 7) (σ 27) 2)) ς κ ++ cs) := hD
  exact eMv hQ hx hb hr hlk hP hD hS (Nat.le_of_ble_eq_true rfl) (Nat.le_of_ble_eq_true rfl) dX2_takes_143 (⟨rfl, rfl⟩)
set_option maxHeartbeats 4000000 in
theorem m_takesF_1_11 (l : Launch) (G : va_G) (ad : Nat → Nat) (ty : Nat → ClassId) (hv : Nat → Option Nat) (σ ς κ : mem) (cs : va_W)   (hz3 : ∀ i, 0 ≤ (σ 23) i ∧ (σ 23) i ≤ 1) : cM l yX2_takes (ws_ yX2_takes cX2_takes 2 none) (rm4 2 0 0 80) G ty (wD ad ty hv σ ς κ ++ cs) [.ref (ad 1), .ref (ad 11)] 0 0 (fun r W' => r = none ∧ W' = wD ad ty hv (up (up (up (up (up (up (up (up (up (up (up (up (up (up σ 8 (sc ((σ 28 0)))) 9 (sc ((σ 29 0)))) 10 (sc ((σ 30 0)))) 11 (sc ((σ 31 0)))) 12 (sc ((σ 32 0)))) 13 (sc ((σ 33 0)))) 0 (cp (σ 20) (σ 0) 5)) 1 (cp (σ 21) (σ 1) 5)) 2 (cp (σ 22) (σ 2) 5)) 3 (cp (σ 23) (σ 3) 5)) 4 (cp (σ 24) (σ 4) 3)) 5 (cp (σ 25) (σ 5) 2)) 6 (cp (σ 26) (σ 6) 3)) 7 (cp (σ 27) (σ 7) 2)) ς κ ++ cs) := by
  refine cM.of (by decide) (Nat.le_of_ble_eq_true rfl) ?_
  intro p e s m args below meth c A Q H locs hQ hx hb hr hml hown hlk hname hts hK hP hD hS hA hX ls hl
  have hl : lv_has ls 2 [(0, .ref (ad 1)), (1, .ref (ad 11))] := hl
  refine lv_aload_n hx hb dX2_takes_0 rfl (lv_at hl 0 rfl) ?_
  refine lv_aload_n hx hb dX2_takes_1 rfl (lv_at hl 1 rfl) ?_
  refine va_get (D := G) (ci := 1) (v := .int (ii (σ 28 0))) (C := RX2) (T := TX2) (N := 13) hx hb hts in_X2 hown hK hP 11 (aD_11 _ _ _ _ _ _ _) rfl 4 (by decide) (hts _ q784) (fun _ h9 => h9) rfl dX2_takes_2 ?_
  refine va_put (D := G) (ci := 1) (v := .int (ii (σ 28 0))) (ty := .int) (C := RX2) (T := TX2) (N := 13) hx hb hts in_X2 tyX2 tyX2_ok nmX2 hown hK hP hD hS 1 (aD_1 _ _ _ _ _ _ _) rfl 4 (by decide) (hts _ q784) (fun _ h9 => h9) rfl (tyX2_ok 4 (by decide)) rfl rfl (Nat.le_of_ble_eq_true rfl) dX2_takes_5 (fun H locs hP hD hS => ?_)
  have hP : va_P G gcl (wD ad ty hv (up σ 8 (sc (σ 28 0))) ς κ ++ cs) H := hP
  have hD : va_D A (wD ad ty hv (up σ 8 (sc (σ 28 0))) ς κ ++ cs) := hD
  refine lv_aload_n hx hb dX2_takes_8 rfl (lv_at hl 0 rfl) ?_
  refine lv_aload_n hx hb dX2_takes_9 rfl (lv_at hl 1 rfl) ?_
  refine va_get (D := G) (ci := 1) (v := .int (ii (σ 29 0))) (C := RX2) (T := TX2) (N := 13) hx hb hts in_X2 hown hK hP 11 (aD_11 _ _ _ _ _ _ _) rfl 6 (by decide) (hts _ q791) (fun _ h9 => h9) rfl dX2_takes_10 ?_
  refine va_put (D := G) (ci := 1) (v := .int (ii (σ 29 0))) (ty := .int) (C := RX2) (T := TX2) (N := 13) hx hb hts in_X2 tyX2 tyX2_ok nmX2 hown hK hP hD hS 1 (aD_1 _ _ _ _ _ _ _) rfl 6 (by decide) (hts _ q791) (fun _ h9 => h9) rfl (tyX2_ok 6 (by decide)) rfl rfl (Nat.le_of_ble_eq_true rfl) dX2_takes_13 (fun H locs hP hD hS => ?_)
  have hP : va_P G gcl (wD ad ty hv (up (up σ 8 (sc (σ 28 0))) 9 (sc (σ 29 0))) ς κ ++ cs) H := hP
  have hD : va_D A (wD ad ty hv (up (up σ 8 (sc (σ 28 0))) 9 (sc (σ 29 0))) ς κ ++ cs) := hD
  refine lv_aload_n hx hb dX2_takes_16 rfl (lv_at hl 0 rfl) ?_
  refine lv_aload_n hx hb dX2_takes_17 rfl (lv_at hl 1 rfl) ?_
  refine va_get (D := G) (ci := 1) (v := .int (ii (σ 30 0))) (C := RX2) (T := TX2) (N := 13) hx hb hts in_X2 hown hK hP 11 (aD_11 _ _ _ _ _ _ _) rfl 8 (by decide) (hts _ q800) (fun _ h9 => h9) rfl dX2_takes_18 ?_
  refine va_put (D := G) (ci := 1) (v := .int (ii (σ 30 0))) (ty := .int) (C := RX2) (T := TX2) (N := 13) hx hb hts in_X2 tyX2 tyX2_ok nmX2 hown hK hP hD hS 1 (aD_1 _ _ _ _ _ _ _) rfl 8 (by decide) (hts _ q800) (fun _ h9 => h9) rfl (tyX2_ok 8 (by decide)) rfl rfl (Nat.le_of_ble_eq_true rfl) dX2_takes_21 (fun H locs hP hD hS => ?_)
  have hP : va_P G gcl (wD ad ty hv (up (up (up σ 8 (sc (σ 28 0))) 9 (sc (σ 29 0))) 10 (sc (σ 30 0))) ς κ ++ cs) H := hP
  have hD : va_D A (wD ad ty hv (up (up (up σ 8 (sc (σ 28 0))) 9 (sc (σ 29 0))) 10 (sc (σ 30 0))) ς κ ++ cs) := hD
  refine lv_aload_n hx hb dX2_takes_24 rfl (lv_at hl 0 rfl) ?_
  refine lv_aload_n hx hb dX2_takes_25 rfl (lv_at hl 1 rfl) ?_
  refine va_get (D := G) (ci := 1) (v := .int (ii (σ 31 0))) (C := RX2) (T := TX2) (N := 13) hx hb hts in_X2 hown hK hP 11 (aD_11 _ _ _ _ _ _ _) rfl 9 (by decide) (hts _ q803) (fun _ h9 => h9) rfl dX2_takes_26 ?_
  refine va_put (D := G) (ci := 1) (v := .int (ii (σ 31 0))) (ty := .int) (C := RX2) (T := TX2) (N := 13) hx hb hts in_X2 tyX2 tyX2_ok nmX2 hown hK hP hD hS 1 (aD_1 _ _ _ _ _ _ _) rfl 9 (by decide) (hts _ q803) (fun _ h9 => h9) rfl (tyX2_ok 9 (by decide)) rfl rfl (Nat.le_of_ble_eq_true rfl) dX2_takes_29 (fun H locs hP hD hS => ?_)
  have hP : va_P G gcl (wD ad ty hv (up (up (up (up σ 8 (sc (σ 28 0))) 9 (sc (σ 29 0))) 10 (sc (σ 30 0))) 11 (sc (σ 31 0))) ς κ ++ cs) H := hP
  have hD : va_D A (wD ad ty hv (up (up (up (up σ 8 (sc (σ 28 0))) 9 (sc (σ 29 0))) 10 (sc (σ 30 0))) 11 (sc (σ 31 0))) ς κ ++ cs) := hD
  refine lv_aload_n hx hb dX2_takes_32 rfl (lv_at hl 0 rfl) ?_
  refine lv_aload_n hx hb dX2_takes_33 rfl (lv_at hl 1 rfl) ?_
  refine va_get (D := G) (ci := 1) (v := .int (ii (σ 32 0))) (C := RX2) (T := TX2) (N := 13) hx hb hts in_X2 hown hK hP 11 (aD_11 _ _ _ _ _ _ _) rfl 10 (by decide) (hts _ q805) (fun _ h9 => h9) rfl dX2_takes_34 ?_
  refine va_put (D := G) (ci := 1) (v := .int (ii (σ 32 0))) (ty := .int) (C := RX2) (T := TX2) (N := 13) hx hb hts in_X2 tyX2 tyX2_ok nmX2 hown hK hP hD hS 1 (aD_1 _ _ _ _ _ _ _) rfl 10 (by decide) (hts _ q805) (fun _ h9 => h9) rfl (tyX2_ok 10 (by decide)) rfl rfl (Nat.le_of_ble_eq_true rfl) dX2_takes_37 (fun H locs hP hD hS => ?_)
  have hP : va_P G gcl (wD ad ty hv (up (up (up (up (up σ 8 (sc (σ 28 0))) 9 (sc (σ 29 0))) 10 (sc (σ 30 0))) 11 (sc (σ 31 0))) 12 (sc (σ 32 0))) ς κ ++ cs) H := hP
  have hD : va_D A (wD ad ty hv (up (up (up (up (up σ 8 (sc (σ 28 0))) 9 (sc (σ 29 0))) 10 (sc (σ 30 0))) 11 (sc (σ 31 0))) 12 (sc (σ 32 0))) ς κ ++ cs) := hD
  refine lv_aload_n hx hb dX2_takes_40 rfl (lv_at hl 0 rfl) ?_
  refine lv_aload_n hx hb dX2_takes_41 rfl (lv_at hl 1 rfl) ?_
  refine va_get (D := G) (ci := 1) (v := .int (ii (σ 33 0))) (C := RX2) (T := TX2) (N := 13) hx hb hts in_X2 hown hK hP 11 (aD_11 _ _ _ _ _ _ _) rfl 11 (by decide) (hts _ q807) (fun _ h9 => h9) rfl dX2_takes_42 ?_
  refine va_put (D := G) (ci := 1) (v := .int (ii (σ 33 0))) (ty := .int) (C := RX2) (T := TX2) (N := 13) hx hb hts in_X2 tyX2 tyX2_ok nmX2 hown hK hP hD hS 1 (aD_1 _ _ _ _ _ _ _) rfl 11 (by decide) (hts _ q807) (fun _ h9 => h9) rfl (tyX2_ok 11 (by decide)) rfl rfl (Nat.le_of_ble_eq_true rfl) dX2_takes_45 (fun H locs hP hD hS => ?_)
  have hP : va_P G gcl (wD ad ty hv (up (up (up (up (up (up σ 8 (sc (σ 28 0))) 9 (sc (σ 29 0))) 10 (sc (σ 30 0))) 11 (sc (σ 31 0))) 12 (sc (σ 32 0))) 13 (sc (σ 33 0))) ς κ ++ cs) H := hP
  have hD : va_D A (wD ad ty hv (up (up (up (up (up (up σ 8 (sc (σ 28 0))) 9 (sc (σ 29 0))) 10 (sc (σ 30 0))) 11 (sc (σ 31 0))) 12 (sc (σ 32 0))) 13 (sc (σ 33 0))) ς κ ++ cs) := hD
  refine lv_aload_n hx hb dX2_takes_48 rfl (lv_at hl 1 rfl) ?_
  refine va_get (D := G) (ci := 1) (v := .ref (ad 12)) (C := RX2) (T := TX2) (N := 13) hx hb hts in_X2 hown hK hP 11 (aD_11 _ _ _ _ _ _ _) rfl 0 (by decide) (hts _ q771) (fun _ h9 => h9) rfl dX2_takes_49 ?_
  refine li_iconst hx hb dX2_takes_52 ?_
  refine lv_aload_n hx hb dX2_takes_53 rfl (lv_at hl 0 rfl) ?_
  refine va_get (D := G) (ci := 1) (v := .ref (ad 2)) (C := RX2) (T := TX2) (N := 13) hx hb hts in_X2 hown hK hP 1 (aD_1 _ _ _ _ _ _ _) rfl 0 (by decide) (hts _ q771) (fun _ h9 => h9) rfl dX2_takes_54 ?_
  refine li_iconst hx hb dX2_takes_57 ?_
  refine li_iconst hx hb dX2_takes_58 ?_
  refine li_copy (k := 5) (g := (σ 20)) (h := (σ 0)) (W2 := wD ad ty hv (up (up (up (up (up (up (up σ 8 (sc (σ 28 0))) 9 (sc (σ 29 0))) 10 (sc (σ 30 0))) 11 (sc (σ 31 0))) 12 (sc (σ 32 0))) 13 (sc (σ 33 0))) 0 (cp (σ 20) (σ 0) 5)) ς κ ++ cs) hx hb (hml.trans hl.1.symm) hown (hts _ q130) (hts _ q132) (hts _ q131) (hts _ q88) hK hP hD hS 12 2 0 (aD_12 _ _ _ _ _ _ _) (aD_2 _ _ _ _ _ _ _) rfl rfl (by decide) (by decide) (by decide) (fun _ => rfl) rfl (Nat.le_of_ble_eq_true rfl) (Nat.le_of_ble_eq_true rfl) dX2_takes_59 (fun H locs hP hD hS => ?_)
  refine lv_aload_n hx hb dX2_takes_62 rfl (lv_at hl 1 rfl) ?_
  refine va_get (D := G) (ci := 1) (v := .ref (ad 13)) (C := RX2) (T := TX2) (N := 13) hx hb hts in_X2 hown hK hP 11 (aD_11 _ _ _ _ _ _ _) rfl 1 (by decide) (hts _ q774) (fun _ h9 => h9) rfl dX2_takes_63 ?_
  refine li_iconst hx hb dX2_takes_66 ?_
  refine lv_aload_n hx hb dX2_takes_67 rfl (lv_at hl 0 rfl) ?_
  refine va_get (D := G) (ci := 1) (v := .ref (ad 3)) (C := RX2) (T := TX2) (N := 13) hx hb hts in_X2 hown hK hP 1 (aD_1 _ _ _ _ _ _ _) rfl 1 (by decide) (hts _ q774) (fun _ h9 => h9) rfl dX2_takes_68 ?_
  refine li_iconst hx hb dX2_takes_71 ?_
  refine li_iconst hx hb dX2_takes_72 ?_
  refine li_copy (k := 5) (g := (σ 21)) (h := (σ 1)) (W2 := wD ad ty hv (up (up (up (up (up (up (up (up σ 8 (sc (σ 28 0))) 9 (sc (σ 29 0))) 10 (sc (σ 30 0))) 11 (sc (σ 31 0))) 12 (sc (σ 32 0))) 13 (sc (σ 33 0))) 0 (cp (σ 20) (σ 0) 5)) 1 (cp (σ 21) (σ 1) 5)) ς κ ++ cs) hx hb (hml.trans hl.1.symm) hown (hts _ q130) (hts _ q132) (hts _ q131) (hts _ q88) hK hP hD hS 13 3 0 (aD_13 _ _ _ _ _ _ _) (aD_3 _ _ _ _ _ _ _) rfl rfl (by decide) (by decide) (by decide) (fun _ => rfl) rfl (Nat.le_of_ble_eq_true rfl) (Nat.le_of_ble_eq_true rfl) dX2_takes_73 (fun H locs hP hD hS => ?_)
  refine lv_aload_n hx hb dX2_takes_76 rfl (lv_at hl 1 rfl) ?_
  refine va_get (D := G) (ci := 1) (v := .ref (ad 14)) (C := RX2) (T := TX2) (N := 13) hx hb hts in_X2 hown hK hP 11 (aD_11 _ _ _ _ _ _ _) rfl 2 (by decide) (hts _ q778) (fun _ h9 => h9) rfl dX2_takes_77 ?_
  refine li_iconst hx hb dX2_takes_80 ?_
  refine lv_aload_n hx hb dX2_takes_81 rfl (lv_at hl 0 rfl) ?_
  refine va_get (D := G) (ci := 1) (v := .ref (ad 4)) (C := RX2) (T := TX2) (N := 13) hx hb hts in_X2 hown hK hP 1 (aD_1 _ _ _ _ _ _ _) rfl 2 (by decide) (hts _ q778) (fun _ h9 => h9) rfl dX2_takes_82 ?_
  refine li_iconst hx hb dX2_takes_85 ?_
  refine li_iconst hx hb dX2_takes_86 ?_
  refine li_copy (k := 5) (g := (σ 22)) (h := (σ 2)) (W2 := wD ad ty hv (up (up (up (up (up (up (up (up (up σ 8 (sc (σ 28 0))) 9 (sc (σ 29 0))) 10 (sc (σ 30 0))) 11 (sc (σ 31 0))) 12 (sc (σ 32 0))) 13 (sc (σ 33 0))) 0 (cp (σ 20) (σ 0) 5)) 1 (cp (σ 21) (σ 1) 5)) 2 (cp (σ 22) (σ 2) 5)) ς κ ++ cs) hx hb (hml.trans hl.1.symm) hown (hts _ q130) (hts _ q132) (hts _ q131) (hts _ q88) hK hP hD hS 14 4 0 (aD_14 _ _ _ _ _ _ _) (aD_4 _ _ _ _ _ _ _) rfl rfl (by decide) (by decide) (by decide) (fun _ => rfl) rfl (Nat.le_of_ble_eq_true rfl) (Nat.le_of_ble_eq_true rfl) dX2_takes_87 (fun H locs hP hD hS => ?_)
  refine lv_aload_n hx hb dX2_takes_90 rfl (lv_at hl 1 rfl) ?_
  refine va_get (D := G) (ci := 1) (v := .ref (ad 15)) (C := RX2) (T := TX2) (N := 13) hx hb hts in_X2 hown hK hP 11 (aD_11 _ _ _ _ _ _ _) rfl 3 (by decide) (hts _ q781) (fun _ h9 => h9) rfl dX2_takes_91 ?_
  refine li_iconst hx hb dX2_takes_94 ?_
  refine lv_aload_n hx hb dX2_takes_95 rfl (lv_at hl 0 rfl) ?_
  refine va_get (D := G) (ci := 1) (v := .ref (ad 5)) (C := RX2) (T := TX2) (N := 13) hx hb hts in_X2 hown hK hP 1 (aD_1 _ _ _ _ _ _ _) rfl 3 (by decide) (hts _ q781) (fun _ h9 => h9) rfl dX2_takes_96 ?_
  refine li_iconst hx hb dX2_takes_99 ?_
  refine li_iconst hx hb dX2_takes_100 ?_
  refine li_copy (k := 5) (g := (σ 23)) (h := (σ 3)) (W2 := wD ad ty hv (up (up (up (up (up (up (up (up (up (up σ 8 (sc (σ 28 0))) 9 (sc (σ 29 0))) 10 (sc (σ 30 0))) 11 (sc (σ 31 0))) 12 (sc (σ 32 0))) 13 (sc (σ 33 0))) 0 (cp (σ 20) (σ 0) 5)) 1 (cp (σ 21) (σ 1) 5)) 2 (cp (σ 22) (σ 2) 5)) 3 (cp (σ 23) (σ 3) 5)) ς κ ++ cs) hx hb (hml.trans hl.1.symm) hown (hts _ q130) (hts _ q132) (hts _ q131) (hts _ q88) hK hP hD hS 15 5 1 (aD_15 _ _ _ _ _ _ _) (aD_5 _ _ _ _ _ _ _) rfl rfl (by decide) (by decide) (by decide) (fun i => fit_z (by have := hz3 i; omega)) rfl (Nat.le_of_ble_eq_true rfl) (Nat.le_of_ble_eq_true rfl) dX2_takes_101 (fun H locs hP hD hS => ?_)
  refine lv_aload_n hx hb dX2_takes_104 rfl (lv_at hl 1 rfl) ?_
  refine va_get (D := G) (ci := 1) (v := .ref (ad 16)) (C := RX2) (T := TX2) (N := 13) hx hb hts in_X2 hown hK hP 11 (aD_11 _ _ _ _ _ _ _) rfl 5 (by decide) (hts _ q786) (fun _ h9 => h9) rfl dX2_takes_105 ?_
  refine li_iconst hx hb dX2_takes_108 ?_
  refine lv_aload_n hx hb dX2_takes_109 rfl (lv_at hl 0 rfl) ?_
  refine va_get (D := G) (ci := 1) (v := .ref (ad 6)) (C := RX2) (T := TX2) (N := 13) hx hb hts in_X2 hown hK hP 1 (aD_1 _ _ _ _ _ _ _) rfl 5 (by decide) (hts _ q786) (fun _ h9 => h9) rfl dX2_takes_110 ?_
  refine li_iconst hx hb dX2_takes_113 ?_
  refine li_iconst hx hb dX2_takes_114 ?_
  refine li_copy (k := 3) (g := (σ 24)) (h := (σ 4)) (W2 := wD ad ty hv (up (up (up (up (up (up (up (up (up (up (up σ 8 (sc (σ 28 0))) 9 (sc (σ 29 0))) 10 (sc (σ 30 0))) 11 (sc (σ 31 0))) 12 (sc (σ 32 0))) 13 (sc (σ 33 0))) 0 (cp (σ 20) (σ 0) 5)) 1 (cp (σ 21) (σ 1) 5)) 2 (cp (σ 22) (σ 2) 5)) 3 (cp (σ 23) (σ 3) 5)) 4 (cp (σ 24) (σ 4) 3)) ς κ ++ cs) hx hb (hml.trans hl.1.symm) hown (hts _ q130) (hts _ q132) (hts _ q131) (hts _ q88) hK hP hD hS 16 6 0 (aD_16 _ _ _ _ _ _ _) (aD_6 _ _ _ _ _ _ _) rfl rfl (by decide) (by decide) (by decide) (fun _ => rfl) rfl (Nat.le_of_ble_eq_true rfl) (Nat.le_of_ble_eq_true rfl) dX2_takes_115 (fun H locs hP hD hS => ?_)
  refine lv_aload_n hx hb dX2_takes_118 rfl (lv_at hl 1 rfl) ?_
  refine va_get (D := G) (ci := 1) (v := .ref (ad 17)) (C := RX2) (T := TX2) (N := 13) hx hb hts in_X2 hown hK hP 11 (aD_11 _ _ _ _ _ _ _) rfl 7 (by decide) (hts _ q794) (fun _ h9 => h9) rfl dX2_takes_119 ?_
  refine li_iconst hx hb dX2_takes_122 ?_
  refine lv_aload_n hx hb dX2_takes_123 rfl (lv_at hl 0 rfl) ?_
  refine va_get (D := G) (ci := 1) (v := .ref (ad 7)) (C := RX2) (T := TX2) (N := 13) hx hb hts in_X2 hown hK hP 1 (aD_1 _ _ _ _ _ _ _) rfl 7 (by decide) (hts _ q794) (fun _ h9 => h9) rfl dX2_takes_124 ?_
  refine li_iconst hx hb dX2_takes_127 ?_
  refine li_iconst hx hb dX2_takes_128 ?_
  refine li_copy (k := 2) (g := (σ 25)) (h := (σ 5)) (W2 := wD ad ty hv (up (up (up (up (up (up (up (up (up (up (up (up σ 8 (sc (σ 28 0))) 9 (sc (σ 29 0))) 10 (sc (σ 30 0))) 11 (sc (σ 31 0))) 12 (sc (σ 32 0))) 13 (sc (σ 33 0))) 0 (cp (σ 20) (σ 0) 5)) 1 (cp (σ 21) (σ 1) 5)) 2 (cp (σ 22) (σ 2) 5)) 3 (cp (σ 23) (σ 3) 5)) 4 (cp (σ 24) (σ 4) 3)) 5 (cp (σ 25) (σ 5) 2)) ς κ ++ cs) hx hb (hml.trans hl.1.symm) hown (hts _ q130) (hts _ q132) (hts _ q131) (hts _ q88) hK hP hD hS 17 7 0 (aD_17 _ _ _ _ _ _ _) (aD_7 _ _ _ _ _ _ _) rfl rfl (by decide) (by decide) (by decide) (fun _ => rfl) rfl (Nat.le_of_ble_eq_true rfl) (Nat.le_of_ble_eq_true rfl) dX2_takes_129 (fun H locs hP hD hS => ?_)
  refine lv_aload_n hx hb dX2_takes_132 rfl (lv_at hl 0 rfl) ?_
  refine va_get (D := G) (ci := 1) (v := .ref (ad 8)) (C := RX2) (T := TX2) (N := 13) hx hb hts in_X2 hown hK hP 1 (aD_1 _ _ _ _ _ _ _) rfl 12 (by decide) (hts _ q809) (fun _ h9 => h9) rfl dX2_takes_133 ?_
  refine lv_aload_n hx hb dX2_takes_136 rfl (lv_at hl 1 rfl) ?_
  refine va_get (D := G) (ci := 1) (v := .ref (ad 18)) (C := RX2) (T := TX2) (N := 13) hx hb hts in_X2 hown hK hP 11 (aD_11 _ _ _ _ _ _ _) rfl 12 (by decide) (hts _ q809) (fun _ h9 => h9) rfl dX2_takes_137 ?_
  refine kM (va_runV (As := [.ref (ad 18)]) (rest := []) ⟨hx, hb, hml, hown, hts⟩ (m_takesS l G ty (wD ad ty hv (up (up (up (up (up (up (up (up (up (up (up (up σ 8 (sc (σ 28 0))) 9 (sc (σ 29 0))) 10 (sc (σ 30 0))) 11 (sc (σ 31 0))) 12 (sc (σ 32 0))) 13 (sc (σ 33 0))) 0 (cp (σ 20) (σ 0) 5)) 1 (cp (σ 21) (σ 1) 5)) 2 (cp (σ 22) (σ 2) 5)) 3 (cp (σ 23) (σ 3) 5)) 4 (cp (σ 24) (σ 4) 3)) 5 (cp (σ 25) (σ 5) 2)) ς κ ++ cs) (fun k => 8 + k) (fun k => ad (8 + k)) (σ 6) (σ 7) (fun k => 18 + k) (fun k => ad (18 + k)) (σ 26) (σ 27) ⟨rfl, rfl, rfl⟩ ⟨rfl, rfl, rfl⟩ (by decide) (by decide) (by decide) (by decide) (by decide) (by decide) (by decide) (by decide) (by decide) (by decide) H.size) (cwV 1 hts (lw_V q133 q134 q135 q78 q136) rfl rfl rfl (by decide +kernel) ⟨Nat.le_of_ble_eq_true rfl, Nat.le_of_ble_eq_true rfl⟩) (pvM (r := (RX3, TX3, 2)) hK hP hD hX 8 (aD_8 _ _ _ _ _ _ _) rfl) rfl rfl hl.1 rfl (lv_room (Nat.le_of_ble_eq_true rfl)) dX2_takes_140 ⟨Nat.le_of_ble_eq_true rfl, Nat.le_of_ble_eq_true rfl⟩) hD hS hA (fun v ws1 H locs hv hP hD hS => ?_)
  obtain ⟨rfl, rfl⟩ := hv
  have hP : va_P G gcl (wD ad ty hv (up (up (up (up (up (up (up (up (up (up (up (up (up (up σ 8 (sc (σ 28 0))) 9 (sc (σ 29 0))) 10 (sc (σ 30 0))) 11 (sc (σ 31 0))) 12 (sc (σ 32 0))) 13 (sc (σ 33 0))) 0 (cp (σ 20) (σ 0) 5)) 1 (cp (σ 21) (σ 1) 5)) 2 (cp (σ 22) (σ 2) 5)) 3 (cp (σ 23) (σ 3) 5)) 4 (cp (σ 24) (σ 4) 3)) 5 (cp (σ 25) (σ 5) 2)) 6 (cp (σ 26) (σ 6) 3)) 7 (cp (σ 27) (σ 7) 2)) ς κ ++ cs) H := hP
  have hD : va_D A (wD ad ty hv (up (up (up (up (up (up (up (up (up (up (up (up (up (up σ 8 (sc (σ 28 0))) 9 (sc (σ 29 0))) 10 (sc (σ 30 0))) 11 (sc (σ 31 0))) 12 (sc (σ 32 0))) 13 (sc (σ 33 0))) 0 (cp (σ 20) (σ 0) 5)) 1 (cp (σ 21) (σ 1) 5)) 2 (cp (σ 22) (σ 2) 5)) 3 (cp (σ 23) (σ 3) 5)) 4 (cp (σ 24) (σ 4) 3)) 5 (cp (σ 25) (σ 5) 2)) 6 (cp (σ 26) (σ 6) 3)) 7 (cp (σ 27) (σ 7) 2)) ς κ ++ cs) := hD
  exact eMv hQ hx hb hr hlk hP hD hS (Nat.le_of_ble_eq_true rfl) (Nat.le_of_ble_eq_true rfl) dX2_takes_143 (⟨rfl, rfl⟩)
set_option maxHeartbeats 4000000 in
theorem m_image (l : Launch) (G : va_G) (ad : Nat → Nat) (ty : Nat → ClassId) (hv : Nat → Option Nat) (σ ς κ : mem) (cs : va_W)   (hz3 : ∀ i, 0 ≤ (σ 3) i ∧ (σ 3) i ≤ 1) : cM l yX1_image (ws_ yX1_image cX1_image 1 (some .int)) (rm4 3 0 0 101) G ty (wD ad ty hv σ ς κ ++ cs) [.ref (ad 0)] 0 0 (fun r W' => r = some (.int (ii (σ 8 0))) ∧ W' = wD ad ty hv (up (up (up (up (up (up (up (up (up (up (up (up (up (up (up σ 48 (sc ((σ 8 0)))) 49 (sc ((σ 9 0)))) 50 (sc ((σ 10 0)))) 51 (sc ((σ 11 0)))) 52 (sc ((σ 12 0)))) 53 (sc ((σ 13 0)))) 40 (cp (σ 0) (σ 40) 5)) 41 (cp (σ 1) (σ 41) 5)) 42 (cp (σ 2) (σ 42) 5)) 43 (cp (σ 3) (σ 43) 5)) 44 (cp (σ 4) (σ 44) 3)) 45 (cp (σ 5) (σ 45) 2)) 46 (cp (σ 6) (σ 46) 3)) 47 (cp (σ 7) (σ 47) 2)) 60 (sc (1))) ς κ ++ cs) := by
  refine cM.of (by decide) (Nat.le_of_ble_eq_true rfl) ?_
  intro p e s m args below meth c A Q H locs hQ hx hb hr hml hown hlk hname hts hK hP hD hS hA hX ls hl
  have hl : lv_has ls 1 [(0, .ref (ad 0))] := hl
  refine lv_aload_n hx hb dX1_image_0 rfl (lv_at hl 0 rfl) ?_
  refine va_get (D := G) (ci := 0) (v := .ref (ad 21)) (C := RX1) (T := TX1) (N := 21) hx hb hts in_X1 hown hK hP 0 (aD_0 _ _ _ _ _ _ _) rfl 2 (by decide) (hts _ q979) (fun _ h9 => h9) rfl dX1_image_1 ?_
  refine lv_aload_n hx hb dX1_image_4 rfl (lv_at hl 0 rfl) ?_
  refine va_get (D := G) (ci := 0) (v := .ref (ad 1)) (C := RX1) (T := TX1) (N := 21) hx hb hts in_X1 hown hK hP 0 (aD_0 _ _ _ _ _ _ _) rfl 0 (by decide) (hts _ q977) (fun _ h9 => h9) rfl dX1_image_5 ?_
  refine kM (va_runV (As := [.ref (ad 1)]) (rest := []) ⟨hx, hb, hml, hown, hts⟩ ((m_takesF_21_1 l G ad ty hv σ ς κ cs (show ∀ i, 0 ≤ (σ 3) i ∧ (σ 3) i ≤ 1 from hz3)) H.size) (cwV 1 hts (lw_V q126 q127 q128 q77 q129) rfl rfl rfl (by decide +kernel) ⟨Nat.le_of_ble_eq_true rfl, Nat.le_of_ble_eq_true rfl⟩) (pvM (r := (RX2, TX2, 13)) hK hP hD hX 21 (aD_21 _ _ _ _ _ _ _) rfl) rfl rfl hl.1 rfl (lv_room (Nat.le_of_ble_eq_true rfl)) dX1_image_8 ⟨Nat.le_of_ble_eq_true rfl, Nat.le_of_ble_eq_true rfl⟩) hD hS hA (fun v ws1 H locs hv hP hD hS => ?_)
  obtain ⟨rfl, rfl⟩ := hv
  have hP : va_P G gcl (wD ad ty hv (up (up (up (up (up (up (up (up (up (up (up (up (up (up σ 48 (sc ((σ 8 0)))) 49 (sc ((σ 9 0)))) 50 (sc ((σ 10 0)))) 51 (sc ((σ 11 0)))) 52 (sc ((σ 12 0)))) 53 (sc ((σ 13 0)))) 40 (cp (σ 0) (σ 40) 5)) 41 (cp (σ 1) (σ 41) 5)) 42 (cp (σ 2) (σ 42) 5)) 43 (cp (σ 3) (σ 43) 5)) 44 (cp (σ 4) (σ 44) 3)) 45 (cp (σ 5) (σ 45) 2)) 46 (cp (σ 6) (σ 46) 3)) 47 (cp (σ 7) (σ 47) 2)) ς κ ++ cs) H := hP
  have hD : va_D A (wD ad ty hv (up (up (up (up (up (up (up (up (up (up (up (up (up (up σ 48 (sc ((σ 8 0)))) 49 (sc ((σ 9 0)))) 50 (sc ((σ 10 0)))) 51 (sc ((σ 11 0)))) 52 (sc ((σ 12 0)))) 53 (sc ((σ 13 0)))) 40 (cp (σ 0) (σ 40) 5)) 41 (cp (σ 1) (σ 41) 5)) 42 (cp (σ 2) (σ 42) 5)) 43 (cp (σ 3) (σ 43) 5)) 44 (cp (σ 4) (σ 44) 3)) 45 (cp (σ 5) (σ 45) 2)) 46 (cp (σ 6) (σ 46) 3)) 47 (cp (σ 7) (σ 47) 2)) ς κ ++ cs) := hD
  refine lv_aload_n hx hb dX1_image_11 rfl (lv_at hl 0 rfl) ?_
  refine li_iconst hx hb dX1_image_12 ?_
  refine va_put (D := G) (ci := 0) (v := .int (ii 1)) (ty := .boolean) (C := RX1) (T := TX1) (N := 21) hx hb hts in_X1 tyX1 tyX1_ok nmX1 hown hK hP hD hS 0 (aD_0 _ _ _ _ _ _ _) rfl 3 (by decide) (hts _ q980) (fun _ h9 => h9) rfl (tyX1_ok 3 (by decide)) (nrw_z (by omega)) (fit_z (by omega)) (Nat.le_of_ble_eq_true rfl) dX1_image_13 (fun H locs hP hD hS => ?_)
  have hP : va_P G gcl (wD ad ty hv (up (up (up (up (up (up (up (up (up (up (up (up (up (up (up σ 48 (sc ((σ 8 0)))) 49 (sc ((σ 9 0)))) 50 (sc ((σ 10 0)))) 51 (sc ((σ 11 0)))) 52 (sc ((σ 12 0)))) 53 (sc ((σ 13 0)))) 40 (cp (σ 0) (σ 40) 5)) 41 (cp (σ 1) (σ 41) 5)) 42 (cp (σ 2) (σ 42) 5)) 43 (cp (σ 3) (σ 43) 5)) 44 (cp (σ 4) (σ 44) 3)) 45 (cp (σ 5) (σ 45) 2)) 46 (cp (σ 6) (σ 46) 3)) 47 (cp (σ 7) (σ 47) 2)) 60 (sc (1))) ς κ ++ cs) H := hP
  have hD : va_D A (wD ad ty hv (up (up (up (up (up (up (up (up (up (up (up (up (up (up (up σ 48 (sc ((σ 8 0)))) 49 (sc ((σ 9 0)))) 50 (sc ((σ 10 0)))) 51 (sc ((σ 11 0)))) 52 (sc ((σ 12 0)))) 53 (sc ((σ 13 0)))) 40 (cp (σ 0) (σ 40) 5)) 41 (cp (σ 1) (σ 41) 5)) 42 (cp (σ 2) (σ 42) 5)) 43 (cp (σ 3) (σ 43) 5)) 44 (cp (σ 4) (σ 44) 3)) 45 (cp (σ 5) (σ 45) 2)) 46 (cp (σ 6) (σ 46) 3)) 47 (cp (σ 7) (σ 47) 2)) 60 (sc (1))) ς κ ++ cs) := hD
  refine lv_aload_n hx hb dX1_image_16 rfl (lv_at hl 0 rfl) ?_
  refine va_get (D := G) (ci := 0) (v := .ref (ad 1)) (C := RX1) (T := TX1) (N := 21) hx hb hts in_X1 hown hK hP 0 (aD_0 _ _ _ _ _ _ _) rfl 0 (by decide) (hts _ q977) (fun _ h9 => h9) rfl dX1_image_17 ?_
  refine va_get (D := G) (ci := 1) (v := .int (ii (σ 8 0))) (C := RX2) (T := TX2) (N := 13) hx hb hts in_X2 hown hK hP 1 (aD_1 _ _ _ _ _ _ _) rfl 4 (by decide) (hts _ q785) (fun _ h9 => h9) rfl dX1_image_20 ?_
  exact eMi hQ hx hb hr hlk hP hD hS (Nat.le_of_ble_eq_true rfl) (Nat.le_of_ble_eq_true rfl) dX1_image_23 (⟨rfl, rfl⟩)
set_option maxHeartbeats 4000000 in
theorem m_restoreN (l : Launch) (G : va_G) (ad : Nat → Nat) (ty : Nat → ClassId) (hv : Nat → Option Nat) (σ ς κ : mem) (cs : va_W)   (h60 : (σ 60 0) = 0) : cM l yX1_restore (ws_ yX1_restore cX1_restore 1 (some .int)) (rm4 0 0 0 0) G ty (wD ad ty hv σ ς κ ++ cs) [.ref (ad 0)] 0 0 (fun r W' => r = some (.int (ii (-3))) ∧ W' = wD ad ty hv σ ς κ ++ cs) := by
  refine cM.of (by decide) (Nat.le_of_ble_eq_true rfl) ?_
  intro p e s m args below meth c A Q H locs hQ hx hb hr hml hown hlk hname hts hK hP hD hS hA hX ls hl
  have hl : lv_has ls 1 [(0, .ref (ad 0))] := hl
  refine lv_aload_n hx hb dX1_restore_0 rfl (lv_at hl 0 rfl) ?_
  refine va_get (D := G) (ci := 0) (v := .int (ii (σ 60 0))) (C := RX1) (T := TX1) (N := 21) hx hb hts in_X1 hown hK hP 0 (aD_0 _ _ _ _ _ _ _) rfl 3 (by decide) (hts _ q980) (fun _ h9 => h9) rfl dX1_restore_1 ?_
  refine li_if_ne (tgt := 10) hx hb ⟨by omega, by omega⟩ dX1_restore_4 (by decide) (fun c4 => ?_) (fun c4 => ?_)
  · exfalso
    omega
  · refine li_bipush hx hb dX1_restore_7 (by decide) ?_
    exact eMi hQ hx hb hr hlk hP hD hS (Nat.le_of_ble_eq_true rfl) (Nat.le_of_ble_eq_true rfl) dX1_restore_9 (⟨rfl, rfl⟩)
set_option maxHeartbeats 4000000 in
theorem m_restoreY (l : Launch) (G : va_G) (ad : Nat → Nat) (ty : Nat → ClassId) (hv : Nat → Option Nat) (σ ς κ : mem) (cs : va_W)   (h60 : (σ 60 0) = 1) (hz3 : ∀ i, 0 ≤ (σ 43) i ∧ (σ 43) i ≤ 1) : cM l yX1_restore (ws_ yX1_restore cX1_restore 1 (some .int)) (rm4 3 0 0 101) G ty (wD ad ty hv σ ς κ ++ cs) [.ref (ad 0)] 0 0 (fun r W' => r = some (.int (ii (σ 48 0))) ∧ W' = wD ad ty hv (up (up (up (up (up (up (up (up (up (up (up (up (up (up σ 8 (sc ((σ 48 0)))) 9 (sc ((σ 49 0)))) 10 (sc ((σ 50 0)))) 11 (sc ((σ 51 0)))) 12 (sc ((σ 52 0)))) 13 (sc ((σ 53 0)))) 0 (cp (σ 40) (σ 0) 5)) 1 (cp (σ 41) (σ 1) 5)) 2 (cp (σ 42) (σ 2) 5)) 3 (cp (σ 43) (σ 3) 5)) 4 (cp (σ 44) (σ 4) 3)) 5 (cp (σ 45) (σ 5) 2)) 6 (cp (σ 46) (σ 6) 3)) 7 (cp (σ 47) (σ 7) 2)) ς κ ++ cs) := by
  refine cM.of (by decide) (Nat.le_of_ble_eq_true rfl) ?_
  intro p e s m args below meth c A Q H locs hQ hx hb hr hml hown hlk hname hts hK hP hD hS hA hX ls hl
  have hl : lv_has ls 1 [(0, .ref (ad 0))] := hl
  refine lv_aload_n hx hb dX1_restore_0 rfl (lv_at hl 0 rfl) ?_
  refine va_get (D := G) (ci := 0) (v := .int (ii (σ 60 0))) (C := RX1) (T := TX1) (N := 21) hx hb hts in_X1 hown hK hP 0 (aD_0 _ _ _ _ _ _ _) rfl 3 (by decide) (hts _ q980) (fun _ h9 => h9) rfl dX1_restore_1 ?_
  refine li_if_ne (tgt := 10) hx hb ⟨by omega, by omega⟩ dX1_restore_4 (by decide) (fun c4 => ?_) (fun c4 => ?_)
  · refine lv_aload_n hx hb dX1_restore_10 rfl (lv_at hl 0 rfl) ?_
    refine va_get (D := G) (ci := 0) (v := .ref (ad 1)) (C := RX1) (T := TX1) (N := 21) hx hb hts in_X1 hown hK hP 0 (aD_0 _ _ _ _ _ _ _) rfl 0 (by decide) (hts _ q977) (fun _ h9 => h9) rfl dX1_restore_11 ?_
    refine lv_aload_n hx hb dX1_restore_14 rfl (lv_at hl 0 rfl) ?_
    refine va_get (D := G) (ci := 0) (v := .ref (ad 21)) (C := RX1) (T := TX1) (N := 21) hx hb hts in_X1 hown hK hP 0 (aD_0 _ _ _ _ _ _ _) rfl 2 (by decide) (hts _ q979) (fun _ h9 => h9) rfl dX1_restore_15 ?_
    refine kM (va_runV (As := [.ref (ad 21)]) (rest := []) ⟨hx, hb, hml, hown, hts⟩ ((m_takesF_1_21 l G ad ty hv σ ς κ cs (show ∀ i, 0 ≤ (σ 43) i ∧ (σ 43) i ≤ 1 from hz3)) H.size) (cwV 1 hts (lw_V q126 q127 q128 q77 q129) rfl rfl rfl (by decide +kernel) ⟨Nat.le_of_ble_eq_true rfl, Nat.le_of_ble_eq_true rfl⟩) (pvM (r := (RX2, TX2, 13)) hK hP hD hX 1 (aD_1 _ _ _ _ _ _ _) rfl) rfl rfl hl.1 rfl (lv_room (Nat.le_of_ble_eq_true rfl)) dX1_restore_18 ⟨Nat.le_of_ble_eq_true rfl, Nat.le_of_ble_eq_true rfl⟩) hD hS hA (fun v ws1 H locs hv hP hD hS => ?_)
    obtain ⟨rfl, rfl⟩ := hv
    have hP : va_P G gcl (wD ad ty hv (up (up (up (up (up (up (up (up (up (up (up (up (up (up σ 8 (sc ((σ 48 0)))) 9 (sc ((σ 49 0)))) 10 (sc ((σ 50 0)))) 11 (sc ((σ 51 0)))) 12 (sc ((σ 52 0)))) 13 (sc ((σ 53 0)))) 0 (cp (σ 40) (σ 0) 5)) 1 (cp (σ 41) (σ 1) 5)) 2 (cp (σ 42) (σ 2) 5)) 3 (cp (σ 43) (σ 3) 5)) 4 (cp (σ 44) (σ 4) 3)) 5 (cp (σ 45) (σ 5) 2)) 6 (cp (σ 46) (σ 6) 3)) 7 (cp (σ 47) (σ 7) 2)) ς κ ++ cs) H := hP
    have hD : va_D A (wD ad ty hv (up (up (up (up (up (up (up (up (up (up (up (up (up (up σ 8 (sc ((σ 48 0)))) 9 (sc ((σ 49 0)))) 10 (sc ((σ 50 0)))) 11 (sc ((σ 51 0)))) 12 (sc ((σ 52 0)))) 13 (sc ((σ 53 0)))) 0 (cp (σ 40) (σ 0) 5)) 1 (cp (σ 41) (σ 1) 5)) 2 (cp (σ 42) (σ 2) 5)) 3 (cp (σ 43) (σ 3) 5)) 4 (cp (σ 44) (σ 4) 3)) 5 (cp (σ 45) (σ 5) 2)) 6 (cp (σ 46) (σ 6) 3)) 7 (cp (σ 47) (σ 7) 2)) ς κ ++ cs) := hD
    refine lv_aload_n hx hb dX1_restore_21 rfl (lv_at hl 0 rfl) ?_
    refine va_get (D := G) (ci := 0) (v := .ref (ad 1)) (C := RX1) (T := TX1) (N := 21) hx hb hts in_X1 hown hK hP 0 (aD_0 _ _ _ _ _ _ _) rfl 0 (by decide) (hts _ q977) (fun _ h9 => h9) rfl dX1_restore_22 ?_
    refine va_get (D := G) (ci := 1) (v := .int (ii ((σ 48 0)))) (C := RX2) (T := TX2) (N := 13) hx hb hts in_X2 hown hK hP 1 (aD_1 _ _ _ _ _ _ _) rfl 4 (by decide) (hts _ q785) (fun _ h9 => h9) rfl dX1_restore_25 ?_
    exact eMi hQ hx hb hr hlk hP hD hS (Nat.le_of_ble_eq_true rfl) (Nat.le_of_ble_eq_true rfl) dX1_restore_28 (⟨rfl, rfl⟩)
  · exfalso
    omega
set_option maxHeartbeats 4000000 in
theorem m_carryT (l : Launch) (G : va_G) (am : Nat → Nat) (ty : Nat → ClassId) (τ ρ : mem) (cs : va_W) (v1 : Int)  (hi44 : 0 ≤ (ρ 44 0) ∧ (ρ 44 0) < 50) (h45 : (ρ 45 0) = 1) : cM l yX12_carry (ws_ yX12_carry cX12_carry 2 (some .int)) (rm4 0 0 0 0) G ty (wM am ty τ ρ ++ cs) [.ref (am 0), .int (ii v1)] 0 0 (fun r W' => r = some (.int (ii v1)) ∧ W' = wM am ty (up τ 43 (ug (τ 43) (ρ 44 0) v1)) (up ρ 44 (sc ((ρ 44 0) + 1))) ++ cs) := by
  refine cM.of (by decide) (Nat.le_of_ble_eq_true rfl) ?_
  intro p e s m args below meth c A Q H locs hQ hx hb hr hml hown hlk hname hts hK hP hD hS hA hX ls hl
  have hl : lv_has ls 2 [(0, .ref (am 0)), (1, .int (ii v1))] := hl
  obtain ⟨hia, hib⟩ := id hi44
  refine lv_aload_n hx hb dX12_carry_0 rfl (lv_at hl 0 rfl) ?_
  refine va_get (D := G) (ci := 11) (v := .int (ii (ρ 45 0))) (C := RX12) (T := TX12) (N := 52) hx hb hts in_X12 hown hK hP 0 (aM_0 _ _ _ _ _) rfl 45 (by decide) (hts _ q1310) (fun _ h9 => h9) rfl dX12_carry_1 ?_
  refine li_if_eq (tgt := 17) hx hb ⟨by omega, by omega⟩ dX12_carry_4 (by decide) (fun c4 => ?_) (fun c4 => ?_)
  · exfalso
    omega
  · refine lv_aload_n hx hb dX12_carry_7 rfl (lv_at hl 0 rfl) ?_
    refine va_get (D := G) (ci := 11) (v := .ref (am 27)) (C := RX12) (T := TX12) (N := 52) hx hb hts in_X12 hown hK hP 0 (aM_0 _ _ _ _ _) rfl 43 (by decide) (hts _ q1308) (fun _ h9 => h9) rfl dX12_carry_8 ?_
    refine lv_aload_n hx hb dX12_carry_11 rfl (lv_at hl 0 rfl) ?_
    refine va_get (D := G) (ci := 11) (v := .int (ii (ρ 44 0))) (C := RX12) (T := TX12) (N := 52) hx hb hts in_X12 hown hK hP 0 (aM_0 _ _ _ _ _) rfl 44 (by decide) (hts _ q1309) (fun _ h9 => h9) rfl dX12_carry_12 ?_
    refine lv_iload_n hx hb dX12_carry_15 rfl (lv_at hl 1 rfl) ?_
    refine li_iast (g := (τ 43)) (W2 := wM am ty (up τ 43 (ug (τ 43) (ρ 44 0) v1)) ρ ++ cs) hx hb hK hP hD hS 27 0 (aM_27 _ _ _ _ _) rfl (by omega) (by omega) (by decide) rfl dX12_carry_16 (fun H locs hP hD hS => ?_)
    refine lv_aload_n hx hb dX12_carry_17 rfl (lv_at hl 0 rfl) ?_
    refine lv_dup hx hb dX12_carry_18 rfl ?_
    refine va_get (D := G) (ci := 11) (v := .int (ii (ρ 44 0))) (C := RX12) (T := TX12) (N := 52) hx hb hts in_X12 hown hK hP 0 (aM_0 _ _ _ _ _) rfl 44 (by decide) (hts _ q1309) (fun _ h9 => h9) rfl dX12_carry_19 ?_
    refine li_iconst hx hb dX12_carry_22 ?_
    refine li_add hx hb dX12_carry_23 ?_
    refine va_put (D := G) (ci := 11) (v := .int (ii (ρ 44 0 + 1))) (ty := .int) (C := RX12) (T := TX12) (N := 52) hx hb hts in_X12 tyX12 tyX12_ok nmX12 hown hK hP hD hS 0 (aM_0 _ _ _ _ _) rfl 44 (by decide) (hts _ q1309) (fun _ h9 => h9) rfl (tyX12_ok 44 (by decide)) rfl rfl (Nat.le_of_ble_eq_true rfl) dX12_carry_24 (fun H locs hP hD hS => ?_)
    have hP : va_P G gcl (wM am ty (up τ 43 (ug (τ 43) (ρ 44 0) v1)) (up ρ 44 (sc (ρ 44 0 + 1))) ++ cs) H := hP
    have hD : va_D A (wM am ty (up τ 43 (ug (τ 43) (ρ 44 0) v1)) (up ρ 44 (sc (ρ 44 0 + 1))) ++ cs) := hD
    refine lv_aload_n hx hb dX12_carry_27 rfl (lv_at hl 0 rfl) ?_
    refine va_get (D := G) (ci := 11) (v := .ref (am 27)) (C := RX12) (T := TX12) (N := 52) hx hb hts in_X12 hown hK hP 0 (aM_0 _ _ _ _ _) rfl 43 (by decide) (hts _ q1308) (fun _ h9 => h9) rfl dX12_carry_28 ?_
    refine lv_aload_n hx hb dX12_carry_31 rfl (lv_at hl 0 rfl) ?_
    refine va_get (D := G) (ci := 11) (v := .int (ii (ρ 44 0 + 1))) (C := RX12) (T := TX12) (N := 52) hx hb hts in_X12 hown hK hP 0 (aM_0 _ _ _ _ _) rfl 44 (by decide) (hts _ q1309) (fun _ h9 => h9) rfl dX12_carry_32 ?_
    refine li_iconst hx hb dX12_carry_35 ?_
    refine li_sub hx hb dX12_carry_36 ?_
    refine li_iald (g := (ug (τ 43) (ρ 44 0) v1)) hx hb hK hP 27 0 (aM_27 _ _ _ _ _) rfl (by omega) (by omega) (by decide) dX12_carry_37 ?_
    exact eMi hQ hx hb hr hlk hP hD hS (Nat.le_of_ble_eq_true rfl) (Nat.le_of_ble_eq_true rfl) dX12_carry_38 (⟨by rw [show ρ 44 0 + 1 - 1 = ρ 44 0 by omega, ug_s], rfl⟩)
set_option maxHeartbeats 4000000 in
theorem m_carryR (l : Launch) (G : va_G) (am : Nat → Nat) (ty : Nat → ClassId) (τ ρ : mem) (cs : va_W) (v1 : Int)  (hi44 : 0 ≤ (ρ 44 0) ∧ (ρ 44 0) < 50) (h45 : (ρ 45 0) = 0) : cM l yX12_carry (ws_ yX12_carry cX12_carry 2 (some .int)) (rm4 0 0 0 0) G ty (wM am ty τ ρ ++ cs) [.ref (am 0), .int (ii v1)] 0 0 (fun r W' => r = some (.int (ii ((τ 43) (ρ 44 0)))) ∧ W' = wM am ty τ (up ρ 44 (sc ((ρ 44 0) + 1))) ++ cs) := by
  refine cM.of (by decide) (Nat.le_of_ble_eq_true rfl) ?_
  intro p e s m args below meth c A Q H locs hQ hx hb hr hml hown hlk hname hts hK hP hD hS hA hX ls hl
  have hl : lv_has ls 2 [(0, .ref (am 0)), (1, .int (ii v1))] := hl
  obtain ⟨hia, hib⟩ := id hi44
  refine lv_aload_n hx hb dX12_carry_0 rfl (lv_at hl 0 rfl) ?_
  refine va_get (D := G) (ci := 11) (v := .int (ii (ρ 45 0))) (C := RX12) (T := TX12) (N := 52) hx hb hts in_X12 hown hK hP 0 (aM_0 _ _ _ _ _) rfl 45 (by decide) (hts _ q1310) (fun _ h9 => h9) rfl dX12_carry_1 ?_
  refine li_if_eq (tgt := 17) hx hb ⟨by omega, by omega⟩ dX12_carry_4 (by decide) (fun c4 => ?_) (fun c4 => ?_)
  · refine lv_aload_n hx hb dX12_carry_17 rfl (lv_at hl 0 rfl) ?_
    refine lv_dup hx hb dX12_carry_18 rfl ?_
    refine va_get (D := G) (ci := 11) (v := .int (ii (ρ 44 0))) (C := RX12) (T := TX12) (N := 52) hx hb hts in_X12 hown hK hP 0 (aM_0 _ _ _ _ _) rfl 44 (by decide) (hts _ q1309) (fun _ h9 => h9) rfl dX12_carry_19 ?_
    refine li_iconst hx hb dX12_carry_22 ?_
    refine li_add hx hb dX12_carry_23 ?_
    refine va_put (D := G) (ci := 11) (v := .int (ii (ρ 44 0 + 1))) (ty := .int) (C := RX12) (T := TX12) (N := 52) hx hb hts in_X12 tyX12 tyX12_ok nmX12 hown hK hP hD hS 0 (aM_0 _ _ _ _ _) rfl 44 (by decide) (hts _ q1309) (fun _ h9 => h9) rfl (tyX12_ok 44 (by decide)) rfl rfl (Nat.le_of_ble_eq_true rfl) dX12_carry_24 (fun H locs hP hD hS => ?_)
    have hP : va_P G gcl (wM am ty τ (up ρ 44 (sc (ρ 44 0 + 1))) ++ cs) H := hP
    have hD : va_D A (wM am ty τ (up ρ 44 (sc (ρ 44 0 + 1))) ++ cs) := hD
    refine lv_aload_n hx hb dX12_carry_27 rfl (lv_at hl 0 rfl) ?_
    refine va_get (D := G) (ci := 11) (v := .ref (am 27)) (C := RX12) (T := TX12) (N := 52) hx hb hts in_X12 hown hK hP 0 (aM_0 _ _ _ _ _) rfl 43 (by decide) (hts _ q1308) (fun _ h9 => h9) rfl dX12_carry_28 ?_
    refine lv_aload_n hx hb dX12_carry_31 rfl (lv_at hl 0 rfl) ?_
    refine va_get (D := G) (ci := 11) (v := .int (ii (ρ 44 0 + 1))) (C := RX12) (T := TX12) (N := 52) hx hb hts in_X12 hown hK hP 0 (aM_0 _ _ _ _ _) rfl 44 (by decide) (hts _ q1309) (fun _ h9 => h9) rfl dX12_carry_32 ?_
    refine li_iconst hx hb dX12_carry_35 ?_
    refine li_sub hx hb dX12_carry_36 ?_
    refine li_iald (g := (τ 43)) hx hb hK hP 27 0 (aM_27 _ _ _ _ _) rfl (by omega) (by omega) (by decide) dX12_carry_37 ?_
    exact eMi hQ hx hb hr hlk hP hD hS (Nat.le_of_ble_eq_true rfl) (Nat.le_of_ble_eq_true rfl) dX12_carry_38 (⟨by rw [show ρ 44 0 + 1 - 1 = ρ 44 0 by omega], rfl⟩)
  · exfalso
    omega
set_option maxHeartbeats 4000000 in
theorem m_carryAllT (l : Launch) (G : va_G) (am : Nat → Nat) (ty : Nat → ClassId) (τ ρ : mem) (cs : va_W)   (h45 : (ρ 45 0) = 1) (hz4 : ∀ i, (τ 4) i = 0 ∨ (τ 4) i = 1) : cM l yX12_carryAll (ws_ yX12_carryAll cX12_carryAll 2 none) (rm4 1 0 0 21) G ty (wM am ty τ ρ ++ cs) [.ref (am 0)] 0 0 (fun r W' => ∃ (Gi : Int → Int), r = none ∧ W' = wM am ty (up τ 43 Gi) (up ρ 44 (sc (36))) ++ cs ∧ (imgP_all τ Gi)) := by
  refine cM.of (by decide) (Nat.le_of_ble_eq_true rfl) ?_
  intro p e s m args below meth c A Q H locs hQ hx hb hr hml hown hlk hname hts hK hP hD hS hA hX ls hl
  have hl : lv_has ls 2 [(0, .ref (am 0))] := hl
  refine lv_aload_n hx hb dX12_carryAll_0 rfl (lv_at hl 0 rfl) ?_
  refine li_iconst hx hb dX12_carryAll_1 ?_
  refine va_put (D := G) (ci := 11) (v := .int (ii 0)) (ty := .int) (C := RX12) (T := TX12) (N := 52) hx hb hts in_X12 tyX12 tyX12_ok nmX12 hown hK hP hD hS 0 (aM_0 _ _ _ _ _) rfl 44 (by decide) (hts _ q1309) (fun _ h9 => h9) rfl (tyX12_ok 44 (by decide)) rfl rfl (Nat.le_of_ble_eq_true rfl) dX12_carryAll_2 (fun H locs hP hD hS => ?_)
  have hP : va_P G gcl (wM am ty τ (up ρ 44 (sc (0))) ++ cs) H := hP
  have hD : va_D A (wM am ty τ (up ρ 44 (sc (0))) ++ cs) := hD
  refine lv_aload_n hx hb dX12_carryAll_5 rfl (lv_at hl 0 rfl) ?_
  refine lv_aload_n hx hb dX12_carryAll_6 rfl (lv_at hl 0 rfl) ?_
  refine lv_aload_n hx hb dX12_carryAll_7 rfl (lv_at hl 0 rfl) ?_
  refine va_get (D := G) (ci := 11) (v := .int (ii (τ 0 0))) (C := RX12) (T := TX12) (N := 52) hx hb hts in_X12 hown hK hP 0 (aM_0 _ _ _ _ _) rfl 0 (by decide) (hts _ q1265) (fun _ h9 => h9) rfl dX12_carryAll_8 ?_
  refine kM (va_runV (As := [.int (ii (τ 0 0))]) (rest := [.ref (am 0)]) ⟨hx, hb, hml, hown, hts⟩ ((m_carryT l G am ty τ (up ρ 44 (sc (0))) cs (τ 0 0) (show 0 ≤ 0 ∧ 0 < 50 from ⟨by omega, by omega⟩) (show (ρ 45 0) = 1 from h45)) H.size) (cwV 1 hts (lw_V q1695 q1697 qs73 q87 q1698) rfl rfl rfl (by decide +kernel) ⟨Nat.le_of_ble_eq_true rfl, Nat.le_of_ble_eq_true rfl⟩) (pvM (r := (RX12, TX12, 52)) hK hP hD hX 0 (aM_0 _ _ _ _ _) rfl) rfl rfl hl.1 rfl (lv_room (Nat.le_of_ble_eq_true rfl)) dX12_carryAll_11 ⟨Nat.le_of_ble_eq_true rfl, Nat.le_of_ble_eq_true rfl⟩) hD hS hA (fun v ws1 H locs hv hP hD hS => ?_)
  obtain ⟨rfl, rfl⟩ := hv
  have hP : va_P G gcl (wM am ty (up τ 43 (ug (τ 43) 0 (τ 0 0))) (up ρ 44 (sc (0 + 1))) ++ cs) H := hP
  have hD : va_D A (wM am ty (up τ 43 (ug (τ 43) 0 (τ 0 0))) (up ρ 44 (sc (0 + 1))) ++ cs) := hD
  refine va_put (D := G) (ci := 11) (v := .int (ii ((τ 0 0)))) (ty := .int) (C := RX12) (T := TX12) (N := 52) hx hb hts in_X12 tyX12 tyX12_ok nmX12 hown hK hP hD hS 0 (aM_0 _ _ _ _ _) rfl 0 (by decide) (hts _ q1265) (fun _ h9 => h9) rfl (tyX12_ok 0 (by decide)) rfl rfl (Nat.le_of_ble_eq_true rfl) dX12_carryAll_14 (fun H locs hP hD hS => ?_)
  have hP : va_P G gcl (wM am ty (up (up τ 43 (ug (τ 43) 0 (τ 0 0))) 0 (sc ((τ 0 0)))) (up ρ 44 (sc (0 + 1))) ++ cs) H := hP
  have hD : va_D A (wM am ty (up (up τ 43 (ug (τ 43) 0 (τ 0 0))) 0 (sc ((τ 0 0)))) (up ρ 44 (sc (0 + 1))) ++ cs) := hD
  have hP : va_P G gcl (wM am ty (up τ 43 (ug (τ 43) 0 (τ 0 0))) (up ρ 44 (sc (0 + 1))) ++ cs) H := hP
  have hD : va_D A (wM am ty (up τ 43 (ug (τ 43) 0 (τ 0 0))) (up ρ 44 (sc (0 + 1))) ++ cs) := hD
  refine lv_aload_n hx hb dX12_carryAll_17 rfl (lv_at hl 0 rfl) ?_
  refine lv_aload_n hx hb dX12_carryAll_18 rfl (lv_at hl 0 rfl) ?_
  refine lv_aload_n hx hb dX12_carryAll_19 rfl (lv_at hl 0 rfl) ?_
  refine va_get (D := G) (ci := 11) (v := .int (ii (τ 5 0))) (C := RX12) (T := TX12) (N := 52) hx hb hts in_X12 hown hK hP 0 (aM_0 _ _ _ _ _) rfl 5 (by decide) (hts _ q1270) (fun _ h9 => h9) rfl dX12_carryAll_20 ?_
  refine kM (va_runV (As := [.int (ii (τ 5 0))]) (rest := [.ref (am 0)]) ⟨hx, hb, hml, hown, hts⟩ ((m_carryT l G am ty (up τ 43 (ug (τ 43) 0 (τ 0 0))) (up ρ 44 (sc (0 + 1))) cs (τ 5 0) (show 0 ≤ (0 + 1) ∧ (0 + 1) < 50 from ⟨by omega, by omega⟩) (show (ρ 45 0) = 1 from h45)) H.size) (cwV 1 hts (lw_V q1695 q1697 qs73 q87 q1698) rfl rfl rfl (by decide +kernel) ⟨Nat.le_of_ble_eq_true rfl, Nat.le_of_ble_eq_true rfl⟩) (pvM (r := (RX12, TX12, 52)) hK hP hD hX 0 (aM_0 _ _ _ _ _) rfl) rfl rfl hl.1 rfl (lv_room (Nat.le_of_ble_eq_true rfl)) dX12_carryAll_23 ⟨Nat.le_of_ble_eq_true rfl, Nat.le_of_ble_eq_true rfl⟩) hD hS hA (fun v ws1 H locs hv hP hD hS => ?_)
  obtain ⟨rfl, rfl⟩ := hv
  have hP : va_P G gcl (wM am ty (up τ 43 (ug (ug (τ 43) 0 (τ 0 0)) (0 + 1) (τ 5 0))) (up ρ 44 (sc ((0 + 1) + 1))) ++ cs) H := hP
  have hD : va_D A (wM am ty (up τ 43 (ug (ug (τ 43) 0 (τ 0 0)) (0 + 1) (τ 5 0))) (up ρ 44 (sc ((0 + 1) + 1))) ++ cs) := hD
  refine va_put (D := G) (ci := 11) (v := .int (ii ((τ 5 0)))) (ty := .int) (C := RX12) (T := TX12) (N := 52) hx hb hts in_X12 tyX12 tyX12_ok nmX12 hown hK hP hD hS 0 (aM_0 _ _ _ _ _) rfl 5 (by decide) (hts _ q1270) (fun _ h9 => h9) rfl (tyX12_ok 5 (by decide)) rfl rfl (Nat.le_of_ble_eq_true rfl) dX12_carryAll_26 (fun H locs hP hD hS => ?_)
  have hP : va_P G gcl (wM am ty (up (up τ 43 (ug (ug (τ 43) 0 (τ 0 0)) (0 + 1) (τ 5 0))) 5 (sc ((τ 5 0)))) (up ρ 44 (sc ((0 + 1) + 1))) ++ cs) H := hP
  have hD : va_D A (wM am ty (up (up τ 43 (ug (ug (τ 43) 0 (τ 0 0)) (0 + 1) (τ 5 0))) 5 (sc ((τ 5 0)))) (up ρ 44 (sc ((0 + 1) + 1))) ++ cs) := hD
  have hP : va_P G gcl (wM am ty (up τ 43 (ug (ug (τ 43) 0 (τ 0 0)) (0 + 1) (τ 5 0))) (up ρ 44 (sc ((0 + 1) + 1))) ++ cs) H := hP
  have hD : va_D A (wM am ty (up τ 43 (ug (ug (τ 43) 0 (τ 0 0)) (0 + 1) (τ 5 0))) (up ρ 44 (sc ((0 + 1) + 1))) ++ cs) := hD
  refine lv_aload_n hx hb dX12_carryAll_29 rfl (lv_at hl 0 rfl) ?_
  refine lv_aload_n hx hb dX12_carryAll_30 rfl (lv_at hl 0 rfl) ?_
  refine lv_aload_n hx hb dX12_carryAll_31 rfl (lv_at hl 0 rfl) ?_
  refine va_get (D := G) (ci := 11) (v := .int (ii (τ 7 0))) (C := RX12) (T := TX12) (N := 52) hx hb hts in_X12 hown hK hP 0 (aM_0 _ _ _ _ _) rfl 7 (by decide) (hts _ q1272) (fun _ h9 => h9) rfl dX12_carryAll_32 ?_
  refine kM (va_runV (As := [.int (ii (τ 7 0))]) (rest := [.ref (am 0)]) ⟨hx, hb, hml, hown, hts⟩ ((m_carryT l G am ty (up τ 43 (ug (ug (τ 43) 0 (τ 0 0)) (0 + 1) (τ 5 0))) (up ρ 44 (sc ((0 + 1) + 1))) cs (τ 7 0) (show 0 ≤ ((0 + 1) + 1) ∧ ((0 + 1) + 1) < 50 from ⟨by omega, by omega⟩) (show (ρ 45 0) = 1 from h45)) H.size) (cwV 1 hts (lw_V q1695 q1697 qs73 q87 q1698) rfl rfl rfl (by decide +kernel) ⟨Nat.le_of_ble_eq_true rfl, Nat.le_of_ble_eq_true rfl⟩) (pvM (r := (RX12, TX12, 52)) hK hP hD hX 0 (aM_0 _ _ _ _ _) rfl) rfl rfl hl.1 rfl (lv_room (Nat.le_of_ble_eq_true rfl)) dX12_carryAll_35 ⟨Nat.le_of_ble_eq_true rfl, Nat.le_of_ble_eq_true rfl⟩) hD hS hA (fun v ws1 H locs hv hP hD hS => ?_)
  obtain ⟨rfl, rfl⟩ := hv
  have hP : va_P G gcl (wM am ty (up τ 43 (ug (ug (ug (τ 43) 0 (τ 0 0)) (0 + 1) (τ 5 0)) ((0 + 1) + 1) (τ 7 0))) (up ρ 44 (sc (((0 + 1) + 1) + 1))) ++ cs) H := hP
  have hD : va_D A (wM am ty (up τ 43 (ug (ug (ug (τ 43) 0 (τ 0 0)) (0 + 1) (τ 5 0)) ((0 + 1) + 1) (τ 7 0))) (up ρ 44 (sc (((0 + 1) + 1) + 1))) ++ cs) := hD
  refine va_put (D := G) (ci := 11) (v := .int (ii ((τ 7 0)))) (ty := .int) (C := RX12) (T := TX12) (N := 52) hx hb hts in_X12 tyX12 tyX12_ok nmX12 hown hK hP hD hS 0 (aM_0 _ _ _ _ _) rfl 7 (by decide) (hts _ q1272) (fun _ h9 => h9) rfl (tyX12_ok 7 (by decide)) rfl rfl (Nat.le_of_ble_eq_true rfl) dX12_carryAll_38 (fun H locs hP hD hS => ?_)
  have hP : va_P G gcl (wM am ty (up (up τ 43 (ug (ug (ug (τ 43) 0 (τ 0 0)) (0 + 1) (τ 5 0)) ((0 + 1) + 1) (τ 7 0))) 7 (sc ((τ 7 0)))) (up ρ 44 (sc (((0 + 1) + 1) + 1))) ++ cs) H := hP
  have hD : va_D A (wM am ty (up (up τ 43 (ug (ug (ug (τ 43) 0 (τ 0 0)) (0 + 1) (τ 5 0)) ((0 + 1) + 1) (τ 7 0))) 7 (sc ((τ 7 0)))) (up ρ 44 (sc (((0 + 1) + 1) + 1))) ++ cs) := hD
  have hP : va_P G gcl (wM am ty (up τ 43 (ug (ug (ug (τ 43) 0 (τ 0 0)) (0 + 1) (τ 5 0)) ((0 + 1) + 1) (τ 7 0))) (up ρ 44 (sc (((0 + 1) + 1) + 1))) ++ cs) H := hP
  have hD : va_D A (wM am ty (up τ 43 (ug (ug (ug (τ 43) 0 (τ 0 0)) (0 + 1) (τ 5 0)) ((0 + 1) + 1) (τ 7 0))) (up ρ 44 (sc (((0 + 1) + 1) + 1))) ++ cs) := hD
  refine lv_aload_n hx hb dX12_carryAll_41 rfl (lv_at hl 0 rfl) ?_
  refine lv_aload_n hx hb dX12_carryAll_42 rfl (lv_at hl 0 rfl) ?_
  refine lv_aload_n hx hb dX12_carryAll_43 rfl (lv_at hl 0 rfl) ?_
  refine va_get (D := G) (ci := 11) (v := .int (ii (τ 11 0))) (C := RX12) (T := TX12) (N := 52) hx hb hts in_X12 hown hK hP 0 (aM_0 _ _ _ _ _) rfl 11 (by decide) (hts _ q1276) (fun _ h9 => h9) rfl dX12_carryAll_44 ?_
  refine kM (va_runV (As := [.int (ii (τ 11 0))]) (rest := [.ref (am 0)]) ⟨hx, hb, hml, hown, hts⟩ ((m_carryT l G am ty (up τ 43 (ug (ug (ug (τ 43) 0 (τ 0 0)) (0 + 1) (τ 5 0)) ((0 + 1) + 1) (τ 7 0))) (up ρ 44 (sc (((0 + 1) + 1) + 1))) cs (τ 11 0) (show 0 ≤ (((0 + 1) + 1) + 1) ∧ (((0 + 1) + 1) + 1) < 50 from ⟨by omega, by omega⟩) (show (ρ 45 0) = 1 from h45)) H.size) (cwV 1 hts (lw_V q1695 q1697 qs73 q87 q1698) rfl rfl rfl (by decide +kernel) ⟨Nat.le_of_ble_eq_true rfl, Nat.le_of_ble_eq_true rfl⟩) (pvM (r := (RX12, TX12, 52)) hK hP hD hX 0 (aM_0 _ _ _ _ _) rfl) rfl rfl hl.1 rfl (lv_room (Nat.le_of_ble_eq_true rfl)) dX12_carryAll_47 ⟨Nat.le_of_ble_eq_true rfl, Nat.le_of_ble_eq_true rfl⟩) hD hS hA (fun v ws1 H locs hv hP hD hS => ?_)
  obtain ⟨rfl, rfl⟩ := hv
  have hP : va_P G gcl (wM am ty (up τ 43 (ug (ug (ug (ug (τ 43) 0 (τ 0 0)) (0 + 1) (τ 5 0)) ((0 + 1) + 1) (τ 7 0)) (((0 + 1) + 1) + 1) (τ 11 0))) (up ρ 44 (sc ((((0 + 1) + 1) + 1) + 1))) ++ cs) H := hP
  have hD : va_D A (wM am ty (up τ 43 (ug (ug (ug (ug (τ 43) 0 (τ 0 0)) (0 + 1) (τ 5 0)) ((0 + 1) + 1) (τ 7 0)) (((0 + 1) + 1) + 1) (τ 11 0))) (up ρ 44 (sc ((((0 + 1) + 1) + 1) + 1))) ++ cs) := hD
  refine va_put (D := G) (ci := 11) (v := .int (ii ((τ 11 0)))) (ty := .int) (C := RX12) (T := TX12) (N := 52) hx hb hts in_X12 tyX12 tyX12_ok nmX12 hown hK hP hD hS 0 (aM_0 _ _ _ _ _) rfl 11 (by decide) (hts _ q1276) (fun _ h9 => h9) rfl (tyX12_ok 11 (by decide)) rfl rfl (Nat.le_of_ble_eq_true rfl) dX12_carryAll_50 (fun H locs hP hD hS => ?_)
  have hP : va_P G gcl (wM am ty (up (up τ 43 (ug (ug (ug (ug (τ 43) 0 (τ 0 0)) (0 + 1) (τ 5 0)) ((0 + 1) + 1) (τ 7 0)) (((0 + 1) + 1) + 1) (τ 11 0))) 11 (sc ((τ 11 0)))) (up ρ 44 (sc ((((0 + 1) + 1) + 1) + 1))) ++ cs) H := hP
  have hD : va_D A (wM am ty (up (up τ 43 (ug (ug (ug (ug (τ 43) 0 (τ 0 0)) (0 + 1) (τ 5 0)) ((0 + 1) + 1) (τ 7 0)) (((0 + 1) + 1) + 1) (τ 11 0))) 11 (sc ((τ 11 0)))) (up ρ 44 (sc ((((0 + 1) + 1) + 1) + 1))) ++ cs) := hD
  have hP : va_P G gcl (wM am ty (up τ 43 (ug (ug (ug (ug (τ 43) 0 (τ 0 0)) (0 + 1) (τ 5 0)) ((0 + 1) + 1) (τ 7 0)) (((0 + 1) + 1) + 1) (τ 11 0))) (up ρ 44 (sc ((((0 + 1) + 1) + 1) + 1))) ++ cs) H := hP
  have hD : va_D A (wM am ty (up τ 43 (ug (ug (ug (ug (τ 43) 0 (τ 0 0)) (0 + 1) (τ 5 0)) ((0 + 1) + 1) (τ 7 0)) (((0 + 1) + 1) + 1) (τ 11 0))) (up ρ 44 (sc ((((0 + 1) + 1) + 1) + 1))) ++ cs) := hD
  refine lv_aload_n hx hb dX12_carryAll_53 rfl (lv_at hl 0 rfl) ?_
  refine lv_aload_n hx hb dX12_carryAll_54 rfl (lv_at hl 0 rfl) ?_
  refine lv_aload_n hx hb dX12_carryAll_55 rfl (lv_at hl 0 rfl) ?_
  refine va_get (D := G) (ci := 11) (v := .int (ii (τ 12 0))) (C := RX12) (T := TX12) (N := 52) hx hb hts in_X12 hown hK hP 0 (aM_0 _ _ _ _ _) rfl 12 (by decide) (hts _ q1277) (fun _ h9 => h9) rfl dX12_carryAll_56 ?_
  refine kM (va_runV (As := [.int (ii (τ 12 0))]) (rest := [.ref (am 0)]) ⟨hx, hb, hml, hown, hts⟩ ((m_carryT l G am ty (up τ 43 (ug (ug (ug (ug (τ 43) 0 (τ 0 0)) (0 + 1) (τ 5 0)) ((0 + 1) + 1) (τ 7 0)) (((0 + 1) + 1) + 1) (τ 11 0))) (up ρ 44 (sc ((((0 + 1) + 1) + 1) + 1))) cs (τ 12 0) (show 0 ≤ ((((0 + 1) + 1) + 1) + 1) ∧ ((((0 + 1) + 1) + 1) + 1) < 50 from ⟨by omega, by omega⟩) (show (ρ 45 0) = 1 from h45)) H.size) (cwV 1 hts (lw_V q1695 q1697 qs73 q87 q1698) rfl rfl rfl (by decide +kernel) ⟨Nat.le_of_ble_eq_true rfl, Nat.le_of_ble_eq_true rfl⟩) (pvM (r := (RX12, TX12, 52)) hK hP hD hX 0 (aM_0 _ _ _ _ _) rfl) rfl rfl hl.1 rfl (lv_room (Nat.le_of_ble_eq_true rfl)) dX12_carryAll_59 ⟨Nat.le_of_ble_eq_true rfl, Nat.le_of_ble_eq_true rfl⟩) hD hS hA (fun v ws1 H locs hv hP hD hS => ?_)
  obtain ⟨rfl, rfl⟩ := hv
  have hP : va_P G gcl (wM am ty (up τ 43 (ug (ug (ug (ug (ug (τ 43) 0 (τ 0 0)) (0 + 1) (τ 5 0)) ((0 + 1) + 1) (τ 7 0)) (((0 + 1) + 1) + 1) (τ 11 0)) ((((0 + 1) + 1) + 1) + 1) (τ 12 0))) (up ρ 44 (sc (((((0 + 1) + 1) + 1) + 1) + 1))) ++ cs) H := hP
  have hD : va_D A (wM am ty (up τ 43 (ug (ug (ug (ug (ug (τ 43) 0 (τ 0 0)) (0 + 1) (τ 5 0)) ((0 + 1) + 1) (τ 7 0)) (((0 + 1) + 1) + 1) (τ 11 0)) ((((0 + 1) + 1) + 1) + 1) (τ 12 0))) (up ρ 44 (sc (((((0 + 1) + 1) + 1) + 1) + 1))) ++ cs) := hD
  refine va_put (D := G) (ci := 11) (v := .int (ii ((τ 12 0)))) (ty := .int) (C := RX12) (T := TX12) (N := 52) hx hb hts in_X12 tyX12 tyX12_ok nmX12 hown hK hP hD hS 0 (aM_0 _ _ _ _ _) rfl 12 (by decide) (hts _ q1277) (fun _ h9 => h9) rfl (tyX12_ok 12 (by decide)) rfl rfl (Nat.le_of_ble_eq_true rfl) dX12_carryAll_62 (fun H locs hP hD hS => ?_)
  have hP : va_P G gcl (wM am ty (up (up τ 43 (ug (ug (ug (ug (ug (τ 43) 0 (τ 0 0)) (0 + 1) (τ 5 0)) ((0 + 1) + 1) (τ 7 0)) (((0 + 1) + 1) + 1) (τ 11 0)) ((((0 + 1) + 1) + 1) + 1) (τ 12 0))) 12 (sc ((τ 12 0)))) (up ρ 44 (sc (((((0 + 1) + 1) + 1) + 1) + 1))) ++ cs) H := hP
  have hD : va_D A (wM am ty (up (up τ 43 (ug (ug (ug (ug (ug (τ 43) 0 (τ 0 0)) (0 + 1) (τ 5 0)) ((0 + 1) + 1) (τ 7 0)) (((0 + 1) + 1) + 1) (τ 11 0)) ((((0 + 1) + 1) + 1) + 1) (τ 12 0))) 12 (sc ((τ 12 0)))) (up ρ 44 (sc (((((0 + 1) + 1) + 1) + 1) + 1))) ++ cs) := hD
  have hP : va_P G gcl (wM am ty (up τ 43 (ug (ug (ug (ug (ug (τ 43) 0 (τ 0 0)) (0 + 1) (τ 5 0)) ((0 + 1) + 1) (τ 7 0)) (((0 + 1) + 1) + 1) (τ 11 0)) ((((0 + 1) + 1) + 1) + 1) (τ 12 0))) (up ρ 44 (sc (((((0 + 1) + 1) + 1) + 1) + 1))) ++ cs) H := hP
  have hD : va_D A (wM am ty (up τ 43 (ug (ug (ug (ug (ug (τ 43) 0 (τ 0 0)) (0 + 1) (τ 5 0)) ((0 + 1) + 1) (τ 7 0)) (((0 + 1) + 1) + 1) (τ 11 0)) ((((0 + 1) + 1) + 1) + 1) (τ 12 0))) (up ρ 44 (sc (((((0 + 1) + 1) + 1) + 1) + 1))) ++ cs) := hD
  refine lv_aload_n hx hb dX12_carryAll_65 rfl (lv_at hl 0 rfl) ?_
  refine lv_aload_n hx hb dX12_carryAll_66 rfl (lv_at hl 0 rfl) ?_
  refine lv_aload_n hx hb dX12_carryAll_67 rfl (lv_at hl 0 rfl) ?_
  refine va_get (D := G) (ci := 11) (v := .int (ii (τ 13 0))) (C := RX12) (T := TX12) (N := 52) hx hb hts in_X12 hown hK hP 0 (aM_0 _ _ _ _ _) rfl 13 (by decide) (hts _ q1278) (fun _ h9 => h9) rfl dX12_carryAll_68 ?_
  refine kM (va_runV (As := [.int (ii (τ 13 0))]) (rest := [.ref (am 0)]) ⟨hx, hb, hml, hown, hts⟩ ((m_carryT l G am ty (up τ 43 (ug (ug (ug (ug (ug (τ 43) 0 (τ 0 0)) (0 + 1) (τ 5 0)) ((0 + 1) + 1) (τ 7 0)) (((0 + 1) + 1) + 1) (τ 11 0)) ((((0 + 1) + 1) + 1) + 1) (τ 12 0))) (up ρ 44 (sc (((((0 + 1) + 1) + 1) + 1) + 1))) cs (τ 13 0) (show 0 ≤ (((((0 + 1) + 1) + 1) + 1) + 1) ∧ (((((0 + 1) + 1) + 1) + 1) + 1) < 50 from ⟨by omega, by omega⟩) (show (ρ 45 0) = 1 from h45)) H.size) (cwV 1 hts (lw_V q1695 q1697 qs73 q87 q1698) rfl rfl rfl (by decide +kernel) ⟨Nat.le_of_ble_eq_true rfl, Nat.le_of_ble_eq_true rfl⟩) (pvM (r := (RX12, TX12, 52)) hK hP hD hX 0 (aM_0 _ _ _ _ _) rfl) rfl rfl hl.1 rfl (lv_room (Nat.le_of_ble_eq_true rfl)) dX12_carryAll_71 ⟨Nat.le_of_ble_eq_true rfl, Nat.le_of_ble_eq_true rfl⟩) hD hS hA (fun v ws1 H locs hv hP hD hS => ?_)
  obtain ⟨rfl, rfl⟩ := hv
  have hP : va_P G gcl (wM am ty (up τ 43 (ug (ug (ug (ug (ug (ug (τ 43) 0 (τ 0 0)) (0 + 1) (τ 5 0)) ((0 + 1) + 1) (τ 7 0)) (((0 + 1) + 1) + 1) (τ 11 0)) ((((0 + 1) + 1) + 1) + 1) (τ 12 0)) (((((0 + 1) + 1) + 1) + 1) + 1) (τ 13 0))) (up ρ 44 (sc ((((((0 + 1) + 1) + 1) + 1) + 1) + 1))) ++ cs) H := hP
  have hD : va_D A (wM am ty (up τ 43 (ug (ug (ug (ug (ug (ug (τ 43) 0 (τ 0 0)) (0 + 1) (τ 5 0)) ((0 + 1) + 1) (τ 7 0)) (((0 + 1) + 1) + 1) (τ 11 0)) ((((0 + 1) + 1) + 1) + 1) (τ 12 0)) (((((0 + 1) + 1) + 1) + 1) + 1) (τ 13 0))) (up ρ 44 (sc ((((((0 + 1) + 1) + 1) + 1) + 1) + 1))) ++ cs) := hD
  refine va_put (D := G) (ci := 11) (v := .int (ii ((τ 13 0)))) (ty := .int) (C := RX12) (T := TX12) (N := 52) hx hb hts in_X12 tyX12 tyX12_ok nmX12 hown hK hP hD hS 0 (aM_0 _ _ _ _ _) rfl 13 (by decide) (hts _ q1278) (fun _ h9 => h9) rfl (tyX12_ok 13 (by decide)) rfl rfl (Nat.le_of_ble_eq_true rfl) dX12_carryAll_74 (fun H locs hP hD hS => ?_)
  have hP : va_P G gcl (wM am ty (up (up τ 43 (ug (ug (ug (ug (ug (ug (τ 43) 0 (τ 0 0)) (0 + 1) (τ 5 0)) ((0 + 1) + 1) (τ 7 0)) (((0 + 1) + 1) + 1) (τ 11 0)) ((((0 + 1) + 1) + 1) + 1) (τ 12 0)) (((((0 + 1) + 1) + 1) + 1) + 1) (τ 13 0))) 13 (sc ((τ 13 0)))) (up ρ 44 (sc ((((((0 + 1) + 1) + 1) + 1) + 1) + 1))) ++ cs) H := hP
  have hD : va_D A (wM am ty (up (up τ 43 (ug (ug (ug (ug (ug (ug (τ 43) 0 (τ 0 0)) (0 + 1) (τ 5 0)) ((0 + 1) + 1) (τ 7 0)) (((0 + 1) + 1) + 1) (τ 11 0)) ((((0 + 1) + 1) + 1) + 1) (τ 12 0)) (((((0 + 1) + 1) + 1) + 1) + 1) (τ 13 0))) 13 (sc ((τ 13 0)))) (up ρ 44 (sc ((((((0 + 1) + 1) + 1) + 1) + 1) + 1))) ++ cs) := hD
  have hP : va_P G gcl (wM am ty (up τ 43 (ug (ug (ug (ug (ug (ug (τ 43) 0 (τ 0 0)) (0 + 1) (τ 5 0)) ((0 + 1) + 1) (τ 7 0)) (((0 + 1) + 1) + 1) (τ 11 0)) ((((0 + 1) + 1) + 1) + 1) (τ 12 0)) (((((0 + 1) + 1) + 1) + 1) + 1) (τ 13 0))) (up ρ 44 (sc ((((((0 + 1) + 1) + 1) + 1) + 1) + 1))) ++ cs) H := hP
  have hD : va_D A (wM am ty (up τ 43 (ug (ug (ug (ug (ug (ug (τ 43) 0 (τ 0 0)) (0 + 1) (τ 5 0)) ((0 + 1) + 1) (τ 7 0)) (((0 + 1) + 1) + 1) (τ 11 0)) ((((0 + 1) + 1) + 1) + 1) (τ 12 0)) (((((0 + 1) + 1) + 1) + 1) + 1) (τ 13 0))) (up ρ 44 (sc ((((((0 + 1) + 1) + 1) + 1) + 1) + 1))) ++ cs) := hD
  refine li_iconst hx hb dX12_carryAll_77 ?_
  refine lv_istore_n (lv' := [(1, .int (ii 0)), (0, .ref (am 0))]) hx hb dX12_carryAll_78 rfl hl (by decide) rfl (fun ls hl => ?_)
  have X79 : ∀ (l1 : Int) (Gi : Int → Int) (at_ : Int) (_ : at_ = 26) (_ : imgL τ Gi 5) (H : Heap) (locs : List Loc) (_ : va_P G gcl (wM am ty (up τ 43 Gi) (up ρ 44 (sc (at_))) ++ cs) H) (_ : va_D A (wM am ty (up τ 43 Gi) (up ρ 44 (sc (at_))) ++ cs)) (_ : va_S A s.heap H locs) (ls : Array Slot), lv_has ls 2 [(0, .ref (am 0))] → W p l e (rm4 1 0 0 21) s m args below meth c H locs 0 0 Q (F0 m 171 ls []) := by
    intro l1 Gi at_ hat hG H locs hP hD hS ls hl
    refine li_iconst hx hb dX12_carryAll_171 ?_
    refine lv_istore_n (lv' := [(1, .int (ii 0)), (0, .ref (am 0))]) hx hb dX12_carryAll_172 rfl hl (by decide) rfl (fun ls hl => ?_)
    have X173 : ∀ (l1 : Int) (Gi : Int → Int) (at_ : Int) (_ : at_ = 32) (_ : imgP τ Gi 3) (H : Heap) (locs : List Loc) (_ : va_P G gcl (wM am ty (up τ 43 Gi) (up ρ 44 (sc (at_))) ++ cs) H) (_ : va_D A (wM am ty (up τ 43 Gi) (up ρ 44 (sc (at_))) ++ cs)) (_ : va_S A s.heap H locs) (ls : Array Slot), lv_has ls 2 [(0, .ref (am 0))] → W p l e (rm4 1 0 0 21) s m args below meth c H locs 0 0 Q (F0 m 216 ls []) := by
      intro l1 Gi at_ hat hG H locs hP hD hS ls hl
      refine li_iconst hx hb dX12_carryAll_216 ?_
      refine lv_istore_n (lv' := [(1, .int (ii 0)), (0, .ref (am 0))]) hx hb dX12_carryAll_217 rfl hl (by decide) rfl (fun ls hl => ?_)
      have L218 : ∀ (n : Nat) (l1 : Int) (Gi : Int → Int) (at_ : Int) (_ : 0 ≤ l1) (_ : l1 ≤ 2) (_ : at_ = 32 + 2 * l1) (_ : imgR τ Gi l1) (_ : (2 - l1).toNat < n) (H : Heap) (locs : List Loc) (_ : va_P G gcl (wM am ty (up τ 43 Gi) (up ρ 44 (sc (at_))) ++ cs) H) (_ : va_D A (wM am ty (up τ 43 Gi) (up ρ 44 (sc (at_))) ++ cs)) (_ : va_S A s.heap H locs) (ls : Array Slot), lv_has ls 2 [(1, .int (ii l1)), (0, .ref (am 0))] → W p l e (rm4 1 0 0 21) s m args below meth c H locs 0 0 Q (F0 m 218 ls []) := by
        intro n
        induction n with
        | zero =>
          intro l1 Gi at_ hl0 hl5 hat hG hm
          exact absurd hm (Nat.not_lt_zero _)
        | succ n ih =>
          intro l1 Gi at_ hl0 hl5 hat hG hm H locs hP hD hS ls hl
          refine lv_iload_n hx hb dX12_carryAll_218 rfl (lv_at hl 0 rfl) ?_
          refine li_iconst hx hb dX12_carryAll_219 ?_
          refine li_icmp_ge (tgt := 261) hx hb ⟨by omega, by omega⟩ ⟨by decide, by decide⟩ dX12_carryAll_220 (by decide) (fun c220 => ?_) (fun c220 => ?_)
          · exact eMv hQ hx hb hr hlk hP hD hS (Nat.le_of_ble_eq_true rfl) (Nat.le_of_ble_eq_true rfl) dX12_carryAll_261 (⟨Gi, rfl, by rw [show at_ = 36 by omega], by rw [show l1 = 2 by omega] at hG; exact hG⟩)
          · refine lv_aload_n hx hb dX12_carryAll_223 rfl (lv_at hl 1 rfl) ?_
            refine va_get (D := G) (ci := 11) (v := .ref (am 6)) (C := RX12) (T := TX12) (N := 52) hx hb hts in_X12 hown hK hP 0 (aM_0 _ _ _ _ _) rfl 8 (by decide) (hts _ q1273) (fun _ h9 => h9) rfl dX12_carryAll_224 ?_
            refine lv_iload_n hx hb dX12_carryAll_227 rfl (lv_at hl 0 rfl) ?_
            refine lv_aload_n hx hb dX12_carryAll_228 rfl (lv_at hl 1 rfl) ?_
            refine lv_aload_n hx hb dX12_carryAll_229 rfl (lv_at hl 1 rfl) ?_
            refine va_get (D := G) (ci := 11) (v := .ref (am 6)) (C := RX12) (T := TX12) (N := 52) hx hb hts in_X12 hown hK hP 0 (aM_0 _ _ _ _ _) rfl 8 (by decide) (hts _ q1273) (fun _ h9 => h9) rfl dX12_carryAll_230 ?_
            refine lv_iload_n hx hb dX12_carryAll_233 rfl (lv_at hl 0 rfl) ?_
            refine li_iald (g := (τ 8)) hx hb hK hP 6 0 (aM_6 _ _ _ _ _) rfl (by omega) (by omega) (by decide) dX12_carryAll_234 ?_
            refine kM (va_runV (As := [.int (ii (τ 8 l1))]) (rest := [.int (ii l1), .ref (am 6)]) ⟨hx, hb, hml, hown, hts⟩ ((m_carryT l G am ty (up τ 43 Gi) (up ρ 44 (sc (at_))) cs (τ 8 l1) (show 0 ≤ at_ ∧ at_ < 50 from ⟨by omega, by omega⟩) (show (ρ 45 0) = 1 from h45)) H.size) (cwV 1 hts (lw_V q1695 q1697 qs73 q87 q1698) rfl rfl rfl (by decide +kernel) ⟨Nat.le_of_ble_eq_true rfl, Nat.le_of_ble_eq_true rfl⟩) (pvM (r := (RX12, TX12, 52)) hK hP hD hX 0 (aM_0 _ _ _ _ _) rfl) rfl rfl hl.1 rfl (lv_room (Nat.le_of_ble_eq_true rfl)) dX12_carryAll_235 ⟨Nat.le_of_ble_eq_true rfl, Nat.le_of_ble_eq_true rfl⟩) hD hS hA (fun v ws1 H locs hv hP hD hS => ?_)
            obtain ⟨rfl, rfl⟩ := hv
            have hP : va_P G gcl (wM am ty (up τ 43 (ug Gi at_ (τ 8 l1))) (up ρ 44 (sc (at_ + 1))) ++ cs) H := hP
            have hD : va_D A (wM am ty (up τ 43 (ug Gi at_ (τ 8 l1))) (up ρ 44 (sc (at_ + 1))) ++ cs) := hD
            refine li_iast (g := (τ 8)) (W2 := wM am ty (up (up τ 43 (ug Gi at_ (τ 8 l1))) 8 (ug (τ 8) l1 ((τ 8 l1)))) (up ρ 44 (sc (at_ + 1))) ++ cs) hx hb hK hP hD hS 6 0 (aM_6 _ _ _ _ _) rfl (by omega) (by omega) (by decide) rfl dX12_carryAll_238 (fun H locs hP hD hS => ?_)
            rw [(show ug (τ 8) l1 (τ 8 l1) = τ 8 from ug_same rfl)] at hP hD
            have hP : va_P G gcl (wM am ty (up τ 43 (ug Gi at_ (τ 8 l1))) (up ρ 44 (sc (at_ + 1))) ++ cs) H := hP
            have hD : va_D A (wM am ty (up τ 43 (ug Gi at_ (τ 8 l1))) (up ρ 44 (sc (at_ + 1))) ++ cs) := hD
            refine lv_aload_n hx hb dX12_carryAll_239 rfl (lv_at hl 1 rfl) ?_
            refine va_get (D := G) (ci := 11) (v := .ref (am 8)) (C := RX12) (T := TX12) (N := 52) hx hb hts in_X12 hown hK hP 0 (aM_0 _ _ _ _ _) rfl 10 (by decide) (hts _ q1275) (fun _ h9 => h9) rfl dX12_carryAll_240 ?_
            refine lv_iload_n hx hb dX12_carryAll_243 rfl (lv_at hl 0 rfl) ?_
            refine lv_aload_n hx hb dX12_carryAll_244 rfl (lv_at hl 1 rfl) ?_
            refine lv_aload_n hx hb dX12_carryAll_245 rfl (lv_at hl 1 rfl) ?_
            refine va_get (D := G) (ci := 11) (v := .ref (am 8)) (C := RX12) (T := TX12) (N := 52) hx hb hts in_X12 hown hK hP 0 (aM_0 _ _ _ _ _) rfl 10 (by decide) (hts _ q1275) (fun _ h9 => h9) rfl dX12_carryAll_246 ?_
            refine lv_iload_n hx hb dX12_carryAll_249 rfl (lv_at hl 0 rfl) ?_
            refine li_iald (g := (τ 10)) hx hb hK hP 8 0 (aM_8 _ _ _ _ _) rfl (by omega) (by omega) (by decide) dX12_carryAll_250 ?_
            refine kM (va_runV (As := [.int (ii (τ 10 l1))]) (rest := [.int (ii l1), .ref (am 8)]) ⟨hx, hb, hml, hown, hts⟩ ((m_carryT l G am ty (up τ 43 (ug Gi at_ (τ 8 l1))) (up ρ 44 (sc (at_ + 1))) cs (τ 10 l1) (show 0 ≤ (at_ + 1) ∧ (at_ + 1) < 50 from ⟨by omega, by omega⟩) (show (ρ 45 0) = 1 from h45)) H.size) (cwV 1 hts (lw_V q1695 q1697 qs73 q87 q1698) rfl rfl rfl (by decide +kernel) ⟨Nat.le_of_ble_eq_true rfl, Nat.le_of_ble_eq_true rfl⟩) (pvM (r := (RX12, TX12, 52)) hK hP hD hX 0 (aM_0 _ _ _ _ _) rfl) rfl rfl hl.1 rfl (lv_room (Nat.le_of_ble_eq_true rfl)) dX12_carryAll_251 ⟨Nat.le_of_ble_eq_true rfl, Nat.le_of_ble_eq_true rfl⟩) hD hS hA (fun v ws1 H locs hv hP hD hS => ?_)
            obtain ⟨rfl, rfl⟩ := hv
            have hP : va_P G gcl (wM am ty (up τ 43 (ug (ug Gi at_ (τ 8 l1)) (at_ + 1) (τ 10 l1))) (up ρ 44 (sc ((at_ + 1) + 1))) ++ cs) H := hP
            have hD : va_D A (wM am ty (up τ 43 (ug (ug Gi at_ (τ 8 l1)) (at_ + 1) (τ 10 l1))) (up ρ 44 (sc ((at_ + 1) + 1))) ++ cs) := hD
            refine li_iast (g := (τ 10)) (W2 := wM am ty (up (up τ 43 (ug (ug Gi at_ (τ 8 l1)) (at_ + 1) (τ 10 l1))) 10 (ug (τ 10) l1 ((τ 10 l1)))) (up ρ 44 (sc ((at_ + 1) + 1))) ++ cs) hx hb hK hP hD hS 8 0 (aM_8 _ _ _ _ _) rfl (by omega) (by omega) (by decide) rfl dX12_carryAll_254 (fun H locs hP hD hS => ?_)
            rw [(show ug (τ 10) l1 (τ 10 l1) = τ 10 from ug_same rfl)] at hP hD
            have hP : va_P G gcl (wM am ty (up τ 43 (ug (ug Gi at_ (τ 8 l1)) (at_ + 1) (τ 10 l1))) (up ρ 44 (sc ((at_ + 1) + 1))) ++ cs) H := hP
            have hD : va_D A (wM am ty (up τ 43 (ug (ug Gi at_ (τ 8 l1)) (at_ + 1) (τ 10 l1))) (up ρ 44 (sc ((at_ + 1) + 1))) ++ cs) := hD
            refine li_iinc (a := l1) (lv' := [(1, .int (ii (l1 + 1))), (0, .ref (am 0))]) hx hb dX12_carryAll_255 hl (k := 0) rfl (by decide) rfl (fun ls hl => ?_)
            refine lv_goto (tgt := 218) hx hb dX12_carryAll_258 (by decide) ?_
            exact ih (l1 + 1) (ug (ug Gi at_ (τ 8 l1)) (at_ + 1) (τ 10 l1)) ((at_ + 1) + 1) (by omega) (by omega) (by omega) (imgR_s hG hat hl0) (by omega) H locs hP hD hS ls (lv_sub hl [0, 1] rfl)
      exact L218 _ 0 Gi at_ (by omega) (by omega) (by omega) (⟨hG, fun i a b => by omega⟩) (Nat.lt_succ_self _) H locs hP hD hS ls (lv_sub hl [0, 1] rfl)
    have L173 : ∀ (n : Nat) (l1 : Int) (Gi : Int → Int) (at_ : Int) (_ : 0 ≤ l1) (_ : l1 ≤ 3) (_ : at_ = 26 + 2 * l1) (_ : imgP τ Gi l1) (_ : (3 - l1).toNat < n) (H : Heap) (locs : List Loc) (_ : va_P G gcl (wM am ty (up τ 43 Gi) (up ρ 44 (sc (at_))) ++ cs) H) (_ : va_D A (wM am ty (up τ 43 Gi) (up ρ 44 (sc (at_))) ++ cs)) (_ : va_S A s.heap H locs) (ls : Array Slot), lv_has ls 2 [(1, .int (ii l1)), (0, .ref (am 0))] → W p l e (rm4 1 0 0 21) s m args below meth c H locs 0 0 Q (F0 m 173 ls []) := by
      intro n
      induction n with
      | zero =>
        intro l1 Gi at_ hl0 hl5 hat hG hm
        exact absurd hm (Nat.not_lt_zero _)
      | succ n ih =>
        intro l1 Gi at_ hl0 hl5 hat hG hm H locs hP hD hS ls hl
        refine lv_iload_n hx hb dX12_carryAll_173 rfl (lv_at hl 0 rfl) ?_
        refine li_iconst hx hb dX12_carryAll_174 ?_
        refine li_icmp_ge (tgt := 216) hx hb ⟨by omega, by omega⟩ ⟨by decide, by decide⟩ dX12_carryAll_175 (by decide) (fun c175 => ?_) (fun c175 => ?_)
        · exact X173 l1 Gi at_ (by omega) (by rw [show (3 : Int) = l1 by omega]; exact hG) H locs hP hD hS ls (lv_sub hl [1] rfl)
        · refine lv_aload_n hx hb dX12_carryAll_178 rfl (lv_at hl 1 rfl) ?_
          refine va_get (D := G) (ci := 11) (v := .ref (am 5)) (C := RX12) (T := TX12) (N := 52) hx hb hts in_X12 hown hK hP 0 (aM_0 _ _ _ _ _) rfl 6 (by decide) (hts _ q1271) (fun _ h9 => h9) rfl dX12_carryAll_179 ?_
          refine lv_iload_n hx hb dX12_carryAll_182 rfl (lv_at hl 0 rfl) ?_
          refine lv_aload_n hx hb dX12_carryAll_183 rfl (lv_at hl 1 rfl) ?_
          refine lv_aload_n hx hb dX12_carryAll_184 rfl (lv_at hl 1 rfl) ?_
          refine va_get (D := G) (ci := 11) (v := .ref (am 5)) (C := RX12) (T := TX12) (N := 52) hx hb hts in_X12 hown hK hP 0 (aM_0 _ _ _ _ _) rfl 6 (by decide) (hts _ q1271) (fun _ h9 => h9) rfl dX12_carryAll_185 ?_
          refine lv_iload_n hx hb dX12_carryAll_188 rfl (lv_at hl 0 rfl) ?_
          refine li_iald (g := (τ 6)) hx hb hK hP 5 0 (aM_5 _ _ _ _ _) rfl (by omega) (by omega) (by decide) dX12_carryAll_189 ?_
          refine kM (va_runV (As := [.int (ii (τ 6 l1))]) (rest := [.int (ii l1), .ref (am 5)]) ⟨hx, hb, hml, hown, hts⟩ ((m_carryT l G am ty (up τ 43 Gi) (up ρ 44 (sc (at_))) cs (τ 6 l1) (show 0 ≤ at_ ∧ at_ < 50 from ⟨by omega, by omega⟩) (show (ρ 45 0) = 1 from h45)) H.size) (cwV 1 hts (lw_V q1695 q1697 qs73 q87 q1698) rfl rfl rfl (by decide +kernel) ⟨Nat.le_of_ble_eq_true rfl, Nat.le_of_ble_eq_true rfl⟩) (pvM (r := (RX12, TX12, 52)) hK hP hD hX 0 (aM_0 _ _ _ _ _) rfl) rfl rfl hl.1 rfl (lv_room (Nat.le_of_ble_eq_true rfl)) dX12_carryAll_190 ⟨Nat.le_of_ble_eq_true rfl, Nat.le_of_ble_eq_true rfl⟩) hD hS hA (fun v ws1 H locs hv hP hD hS => ?_)
          obtain ⟨rfl, rfl⟩ := hv
          have hP : va_P G gcl (wM am ty (up τ 43 (ug Gi at_ (τ 6 l1))) (up ρ 44 (sc (at_ + 1))) ++ cs) H := hP
          have hD : va_D A (wM am ty (up τ 43 (ug Gi at_ (τ 6 l1))) (up ρ 44 (sc (at_ + 1))) ++ cs) := hD
          refine li_iast (g := (τ 6)) (W2 := wM am ty (up (up τ 43 (ug Gi at_ (τ 6 l1))) 6 (ug (τ 6) l1 ((τ 6 l1)))) (up ρ 44 (sc (at_ + 1))) ++ cs) hx hb hK hP hD hS 5 0 (aM_5 _ _ _ _ _) rfl (by omega) (by omega) (by decide) rfl dX12_carryAll_193 (fun H locs hP hD hS => ?_)
          rw [(show ug (τ 6) l1 (τ 6 l1) = τ 6 from ug_same rfl)] at hP hD
          have hP : va_P G gcl (wM am ty (up τ 43 (ug Gi at_ (τ 6 l1))) (up ρ 44 (sc (at_ + 1))) ++ cs) H := hP
          have hD : va_D A (wM am ty (up τ 43 (ug Gi at_ (τ 6 l1))) (up ρ 44 (sc (at_ + 1))) ++ cs) := hD
          refine lv_aload_n hx hb dX12_carryAll_194 rfl (lv_at hl 1 rfl) ?_
          refine va_get (D := G) (ci := 11) (v := .ref (am 7)) (C := RX12) (T := TX12) (N := 52) hx hb hts in_X12 hown hK hP 0 (aM_0 _ _ _ _ _) rfl 9 (by decide) (hts _ q1274) (fun _ h9 => h9) rfl dX12_carryAll_195 ?_
          refine lv_iload_n hx hb dX12_carryAll_198 rfl (lv_at hl 0 rfl) ?_
          refine lv_aload_n hx hb dX12_carryAll_199 rfl (lv_at hl 1 rfl) ?_
          refine lv_aload_n hx hb dX12_carryAll_200 rfl (lv_at hl 1 rfl) ?_
          refine va_get (D := G) (ci := 11) (v := .ref (am 7)) (C := RX12) (T := TX12) (N := 52) hx hb hts in_X12 hown hK hP 0 (aM_0 _ _ _ _ _) rfl 9 (by decide) (hts _ q1274) (fun _ h9 => h9) rfl dX12_carryAll_201 ?_
          refine lv_iload_n hx hb dX12_carryAll_204 rfl (lv_at hl 0 rfl) ?_
          refine li_iald (g := (τ 9)) hx hb hK hP 7 0 (aM_7 _ _ _ _ _) rfl (by omega) (by omega) (by decide) dX12_carryAll_205 ?_
          refine kM (va_runV (As := [.int (ii (τ 9 l1))]) (rest := [.int (ii l1), .ref (am 7)]) ⟨hx, hb, hml, hown, hts⟩ ((m_carryT l G am ty (up τ 43 (ug Gi at_ (τ 6 l1))) (up ρ 44 (sc (at_ + 1))) cs (τ 9 l1) (show 0 ≤ (at_ + 1) ∧ (at_ + 1) < 50 from ⟨by omega, by omega⟩) (show (ρ 45 0) = 1 from h45)) H.size) (cwV 1 hts (lw_V q1695 q1697 qs73 q87 q1698) rfl rfl rfl (by decide +kernel) ⟨Nat.le_of_ble_eq_true rfl, Nat.le_of_ble_eq_true rfl⟩) (pvM (r := (RX12, TX12, 52)) hK hP hD hX 0 (aM_0 _ _ _ _ _) rfl) rfl rfl hl.1 rfl (lv_room (Nat.le_of_ble_eq_true rfl)) dX12_carryAll_206 ⟨Nat.le_of_ble_eq_true rfl, Nat.le_of_ble_eq_true rfl⟩) hD hS hA (fun v ws1 H locs hv hP hD hS => ?_)
          obtain ⟨rfl, rfl⟩ := hv
          have hP : va_P G gcl (wM am ty (up τ 43 (ug (ug Gi at_ (τ 6 l1)) (at_ + 1) (τ 9 l1))) (up ρ 44 (sc ((at_ + 1) + 1))) ++ cs) H := hP
          have hD : va_D A (wM am ty (up τ 43 (ug (ug Gi at_ (τ 6 l1)) (at_ + 1) (τ 9 l1))) (up ρ 44 (sc ((at_ + 1) + 1))) ++ cs) := hD
          refine li_iast (g := (τ 9)) (W2 := wM am ty (up (up τ 43 (ug (ug Gi at_ (τ 6 l1)) (at_ + 1) (τ 9 l1))) 9 (ug (τ 9) l1 ((τ 9 l1)))) (up ρ 44 (sc ((at_ + 1) + 1))) ++ cs) hx hb hK hP hD hS 7 0 (aM_7 _ _ _ _ _) rfl (by omega) (by omega) (by decide) rfl dX12_carryAll_209 (fun H locs hP hD hS => ?_)
          rw [(show ug (τ 9) l1 (τ 9 l1) = τ 9 from ug_same rfl)] at hP hD
          have hP : va_P G gcl (wM am ty (up τ 43 (ug (ug Gi at_ (τ 6 l1)) (at_ + 1) (τ 9 l1))) (up ρ 44 (sc ((at_ + 1) + 1))) ++ cs) H := hP
          have hD : va_D A (wM am ty (up τ 43 (ug (ug Gi at_ (τ 6 l1)) (at_ + 1) (τ 9 l1))) (up ρ 44 (sc ((at_ + 1) + 1))) ++ cs) := hD
          refine li_iinc (a := l1) (lv' := [(1, .int (ii (l1 + 1))), (0, .ref (am 0))]) hx hb dX12_carryAll_210 hl (k := 0) rfl (by decide) rfl (fun ls hl => ?_)
          refine lv_goto (tgt := 173) hx hb dX12_carryAll_213 (by decide) ?_
          exact ih (l1 + 1) (ug (ug Gi at_ (τ 6 l1)) (at_ + 1) (τ 9 l1)) ((at_ + 1) + 1) (by omega) (by omega) (by omega) (imgP_s hG hat hl0) (by omega) H locs hP hD hS ls (lv_sub hl [0, 1] rfl)
    exact L173 _ 0 Gi at_ (by omega) (by omega) (by omega) (⟨hG, fun i a b => by omega⟩) (Nat.lt_succ_self _) H locs hP hD hS ls (lv_sub hl [0, 1] rfl)
  have L79 : ∀ (n : Nat) (l1 : Int) (Gi : Int → Int) (at_ : Int) (_ : 0 ≤ l1) (_ : l1 ≤ 5) (_ : at_ = 6 + 4 * l1) (_ : imgL τ Gi l1) (_ : (5 - l1).toNat < n) (H : Heap) (locs : List Loc) (_ : va_P G gcl (wM am ty (up τ 43 Gi) (up ρ 44 (sc (at_))) ++ cs) H) (_ : va_D A (wM am ty (up τ 43 Gi) (up ρ 44 (sc (at_))) ++ cs)) (_ : va_S A s.heap H locs) (ls : Array Slot), lv_has ls 2 [(1, .int (ii l1)), (0, .ref (am 0))] → W p l e (rm4 1 0 0 21) s m args below meth c H locs 0 0 Q (F0 m 79 ls []) := by
    intro n
    induction n with
    | zero =>
      intro l1 Gi at_ hl0 hl5 hat hG hm
      exact absurd hm (Nat.not_lt_zero _)
    | succ n ih =>
      intro l1 Gi at_ hl0 hl5 hat hG hm H locs hP hD hS ls hl
      refine lv_iload_n hx hb dX12_carryAll_79 rfl (lv_at hl 0 rfl) ?_
      refine li_iconst hx hb dX12_carryAll_80 ?_
      refine li_icmp_ge (tgt := 171) hx hb ⟨by omega, by omega⟩ ⟨by decide, by decide⟩ dX12_carryAll_81 (by decide) (fun c81 => ?_) (fun c81 => ?_)
      · exact X79 l1 Gi at_ (by omega) (by rw [show (5 : Int) = l1 by omega]; exact hG) H locs hP hD hS ls (lv_sub hl [1] rfl)
      · refine lv_aload_n hx hb dX12_carryAll_84 rfl (lv_at hl 1 rfl) ?_
        refine va_get (D := G) (ci := 11) (v := .ref (am 1)) (C := RX12) (T := TX12) (N := 52) hx hb hts in_X12 hown hK hP 0 (aM_0 _ _ _ _ _) rfl 1 (by decide) (hts _ q1266) (fun _ h9 => h9) rfl dX12_carryAll_85 ?_
        refine lv_iload_n hx hb dX12_carryAll_88 rfl (lv_at hl 0 rfl) ?_
        refine lv_aload_n hx hb dX12_carryAll_89 rfl (lv_at hl 1 rfl) ?_
        refine lv_aload_n hx hb dX12_carryAll_90 rfl (lv_at hl 1 rfl) ?_
        refine va_get (D := G) (ci := 11) (v := .ref (am 1)) (C := RX12) (T := TX12) (N := 52) hx hb hts in_X12 hown hK hP 0 (aM_0 _ _ _ _ _) rfl 1 (by decide) (hts _ q1266) (fun _ h9 => h9) rfl dX12_carryAll_91 ?_
        refine lv_iload_n hx hb dX12_carryAll_94 rfl (lv_at hl 0 rfl) ?_
        refine li_iald (g := (τ 1)) hx hb hK hP 1 0 (aM_1 _ _ _ _ _) rfl (by omega) (by omega) (by decide) dX12_carryAll_95 ?_
        refine kM (va_runV (As := [.int (ii (τ 1 l1))]) (rest := [.int (ii l1), .ref (am 1)]) ⟨hx, hb, hml, hown, hts⟩ ((m_carryT l G am ty (up τ 43 Gi) (up ρ 44 (sc (at_))) cs (τ 1 l1) (show 0 ≤ at_ ∧ at_ < 50 from ⟨by omega, by omega⟩) (show (ρ 45 0) = 1 from h45)) H.size) (cwV 1 hts (lw_V q1695 q1697 qs73 q87 q1698) rfl rfl rfl (by decide +kernel) ⟨Nat.le_of_ble_eq_true rfl, Nat.le_of_ble_eq_true rfl⟩) (pvM (r := (RX12, TX12, 52)) hK hP hD hX 0 (aM_0 _ _ _ _ _) rfl) rfl rfl hl.1 rfl (lv_room (Nat.le_of_ble_eq_true rfl)) dX12_carryAll_96 ⟨Nat.le_of_ble_eq_true rfl, Nat.le_of_ble_eq_true rfl⟩) hD hS hA (fun v ws1 H locs hv hP hD hS => ?_)
        obtain ⟨rfl, rfl⟩ := hv
        have hP : va_P G gcl (wM am ty (up τ 43 (ug Gi at_ (τ 1 l1))) (up ρ 44 (sc (at_ + 1))) ++ cs) H := hP
        have hD : va_D A (wM am ty (up τ 43 (ug Gi at_ (τ 1 l1))) (up ρ 44 (sc (at_ + 1))) ++ cs) := hD
        refine li_iast (g := (τ 1)) (W2 := wM am ty (up (up τ 43 (ug Gi at_ (τ 1 l1))) 1 (ug (τ 1) l1 ((τ 1 l1)))) (up ρ 44 (sc (at_ + 1))) ++ cs) hx hb hK hP hD hS 1 0 (aM_1 _ _ _ _ _) rfl (by omega) (by omega) (by decide) rfl dX12_carryAll_99 (fun H locs hP hD hS => ?_)
        rw [(show ug (τ 1) l1 (τ 1 l1) = τ 1 from ug_same rfl)] at hP hD
        have hP : va_P G gcl (wM am ty (up τ 43 (ug Gi at_ (τ 1 l1))) (up ρ 44 (sc (at_ + 1))) ++ cs) H := hP
        have hD : va_D A (wM am ty (up τ 43 (ug Gi at_ (τ 1 l1))) (up ρ 44 (sc (at_ + 1))) ++ cs) := hD
        refine lv_aload_n hx hb dX12_carryAll_100 rfl (lv_at hl 1 rfl) ?_
        refine va_get (D := G) (ci := 11) (v := .ref (am 2)) (C := RX12) (T := TX12) (N := 52) hx hb hts in_X12 hown hK hP 0 (aM_0 _ _ _ _ _) rfl 2 (by decide) (hts _ q1267) (fun _ h9 => h9) rfl dX12_carryAll_101 ?_
        refine lv_iload_n hx hb dX12_carryAll_104 rfl (lv_at hl 0 rfl) ?_
        refine lv_aload_n hx hb dX12_carryAll_105 rfl (lv_at hl 1 rfl) ?_
        refine lv_aload_n hx hb dX12_carryAll_106 rfl (lv_at hl 1 rfl) ?_
        refine va_get (D := G) (ci := 11) (v := .ref (am 2)) (C := RX12) (T := TX12) (N := 52) hx hb hts in_X12 hown hK hP 0 (aM_0 _ _ _ _ _) rfl 2 (by decide) (hts _ q1267) (fun _ h9 => h9) rfl dX12_carryAll_107 ?_
        refine lv_iload_n hx hb dX12_carryAll_110 rfl (lv_at hl 0 rfl) ?_
        refine li_iald (g := (τ 2)) hx hb hK hP 2 0 (aM_2 _ _ _ _ _) rfl (by omega) (by omega) (by decide) dX12_carryAll_111 ?_
        refine kM (va_runV (As := [.int (ii (τ 2 l1))]) (rest := [.int (ii l1), .ref (am 2)]) ⟨hx, hb, hml, hown, hts⟩ ((m_carryT l G am ty (up τ 43 (ug Gi at_ (τ 1 l1))) (up ρ 44 (sc (at_ + 1))) cs (τ 2 l1) (show 0 ≤ (at_ + 1) ∧ (at_ + 1) < 50 from ⟨by omega, by omega⟩) (show (ρ 45 0) = 1 from h45)) H.size) (cwV 1 hts (lw_V q1695 q1697 qs73 q87 q1698) rfl rfl rfl (by decide +kernel) ⟨Nat.le_of_ble_eq_true rfl, Nat.le_of_ble_eq_true rfl⟩) (pvM (r := (RX12, TX12, 52)) hK hP hD hX 0 (aM_0 _ _ _ _ _) rfl) rfl rfl hl.1 rfl (lv_room (Nat.le_of_ble_eq_true rfl)) dX12_carryAll_112 ⟨Nat.le_of_ble_eq_true rfl, Nat.le_of_ble_eq_true rfl⟩) hD hS hA (fun v ws1 H locs hv hP hD hS => ?_)
        obtain ⟨rfl, rfl⟩ := hv
        have hP : va_P G gcl (wM am ty (up τ 43 (ug (ug Gi at_ (τ 1 l1)) (at_ + 1) (τ 2 l1))) (up ρ 44 (sc ((at_ + 1) + 1))) ++ cs) H := hP
        have hD : va_D A (wM am ty (up τ 43 (ug (ug Gi at_ (τ 1 l1)) (at_ + 1) (τ 2 l1))) (up ρ 44 (sc ((at_ + 1) + 1))) ++ cs) := hD
        refine li_iast (g := (τ 2)) (W2 := wM am ty (up (up τ 43 (ug (ug Gi at_ (τ 1 l1)) (at_ + 1) (τ 2 l1))) 2 (ug (τ 2) l1 ((τ 2 l1)))) (up ρ 44 (sc ((at_ + 1) + 1))) ++ cs) hx hb hK hP hD hS 2 0 (aM_2 _ _ _ _ _) rfl (by omega) (by omega) (by decide) rfl dX12_carryAll_115 (fun H locs hP hD hS => ?_)
        rw [(show ug (τ 2) l1 (τ 2 l1) = τ 2 from ug_same rfl)] at hP hD
        have hP : va_P G gcl (wM am ty (up τ 43 (ug (ug Gi at_ (τ 1 l1)) (at_ + 1) (τ 2 l1))) (up ρ 44 (sc ((at_ + 1) + 1))) ++ cs) H := hP
        have hD : va_D A (wM am ty (up τ 43 (ug (ug Gi at_ (τ 1 l1)) (at_ + 1) (τ 2 l1))) (up ρ 44 (sc ((at_ + 1) + 1))) ++ cs) := hD
        refine lv_aload_n hx hb dX12_carryAll_116 rfl (lv_at hl 1 rfl) ?_
        refine va_get (D := G) (ci := 11) (v := .ref (am 3)) (C := RX12) (T := TX12) (N := 52) hx hb hts in_X12 hown hK hP 0 (aM_0 _ _ _ _ _) rfl 3 (by decide) (hts _ q1268) (fun _ h9 => h9) rfl dX12_carryAll_117 ?_
        refine lv_iload_n hx hb dX12_carryAll_120 rfl (lv_at hl 0 rfl) ?_
        refine lv_aload_n hx hb dX12_carryAll_121 rfl (lv_at hl 1 rfl) ?_
        refine lv_aload_n hx hb dX12_carryAll_122 rfl (lv_at hl 1 rfl) ?_
        refine va_get (D := G) (ci := 11) (v := .ref (am 3)) (C := RX12) (T := TX12) (N := 52) hx hb hts in_X12 hown hK hP 0 (aM_0 _ _ _ _ _) rfl 3 (by decide) (hts _ q1268) (fun _ h9 => h9) rfl dX12_carryAll_123 ?_
        refine lv_iload_n hx hb dX12_carryAll_126 rfl (lv_at hl 0 rfl) ?_
        refine li_iald (g := (τ 3)) hx hb hK hP 3 0 (aM_3 _ _ _ _ _) rfl (by omega) (by omega) (by decide) dX12_carryAll_127 ?_
        refine kM (va_runV (As := [.int (ii (τ 3 l1))]) (rest := [.int (ii l1), .ref (am 3)]) ⟨hx, hb, hml, hown, hts⟩ ((m_carryT l G am ty (up τ 43 (ug (ug Gi at_ (τ 1 l1)) (at_ + 1) (τ 2 l1))) (up ρ 44 (sc ((at_ + 1) + 1))) cs (τ 3 l1) (show 0 ≤ ((at_ + 1) + 1) ∧ ((at_ + 1) + 1) < 50 from ⟨by omega, by omega⟩) (show (ρ 45 0) = 1 from h45)) H.size) (cwV 1 hts (lw_V q1695 q1697 qs73 q87 q1698) rfl rfl rfl (by decide +kernel) ⟨Nat.le_of_ble_eq_true rfl, Nat.le_of_ble_eq_true rfl⟩) (pvM (r := (RX12, TX12, 52)) hK hP hD hX 0 (aM_0 _ _ _ _ _) rfl) rfl rfl hl.1 rfl (lv_room (Nat.le_of_ble_eq_true rfl)) dX12_carryAll_128 ⟨Nat.le_of_ble_eq_true rfl, Nat.le_of_ble_eq_true rfl⟩) hD hS hA (fun v ws1 H locs hv hP hD hS => ?_)
        obtain ⟨rfl, rfl⟩ := hv
        have hP : va_P G gcl (wM am ty (up τ 43 (ug (ug (ug Gi at_ (τ 1 l1)) (at_ + 1) (τ 2 l1)) ((at_ + 1) + 1) (τ 3 l1))) (up ρ 44 (sc (((at_ + 1) + 1) + 1))) ++ cs) H := hP
        have hD : va_D A (wM am ty (up τ 43 (ug (ug (ug Gi at_ (τ 1 l1)) (at_ + 1) (τ 2 l1)) ((at_ + 1) + 1) (τ 3 l1))) (up ρ 44 (sc (((at_ + 1) + 1) + 1))) ++ cs) := hD
        refine li_iast (g := (τ 3)) (W2 := wM am ty (up (up τ 43 (ug (ug (ug Gi at_ (τ 1 l1)) (at_ + 1) (τ 2 l1)) ((at_ + 1) + 1) (τ 3 l1))) 3 (ug (τ 3) l1 ((τ 3 l1)))) (up ρ 44 (sc (((at_ + 1) + 1) + 1))) ++ cs) hx hb hK hP hD hS 3 0 (aM_3 _ _ _ _ _) rfl (by omega) (by omega) (by decide) rfl dX12_carryAll_131 (fun H locs hP hD hS => ?_)
        rw [(show ug (τ 3) l1 (τ 3 l1) = τ 3 from ug_same rfl)] at hP hD
        have hP : va_P G gcl (wM am ty (up τ 43 (ug (ug (ug Gi at_ (τ 1 l1)) (at_ + 1) (τ 2 l1)) ((at_ + 1) + 1) (τ 3 l1))) (up ρ 44 (sc (((at_ + 1) + 1) + 1))) ++ cs) H := hP
        have hD : va_D A (wM am ty (up τ 43 (ug (ug (ug Gi at_ (τ 1 l1)) (at_ + 1) (τ 2 l1)) ((at_ + 1) + 1) (τ 3 l1))) (up ρ 44 (sc (((at_ + 1) + 1) + 1))) ++ cs) := hD
        refine lv_aload_n hx hb dX12_carryAll_132 rfl (lv_at hl 1 rfl) ?_
        refine va_get (D := G) (ci := 11) (v := .ref (am 4)) (C := RX12) (T := TX12) (N := 52) hx hb hts in_X12 hown hK hP 0 (aM_0 _ _ _ _ _) rfl 4 (by decide) (hts _ q1269) (fun _ h9 => h9) rfl dX12_carryAll_133 ?_
        refine lv_iload_n hx hb dX12_carryAll_136 rfl (lv_at hl 0 rfl) ?_
        refine lv_aload_n hx hb dX12_carryAll_137 rfl (lv_at hl 1 rfl) ?_
        refine lv_aload_n hx hb dX12_carryAll_138 rfl (lv_at hl 1 rfl) ?_
        refine va_get (D := G) (ci := 11) (v := .ref (am 4)) (C := RX12) (T := TX12) (N := 52) hx hb hts in_X12 hown hK hP 0 (aM_0 _ _ _ _ _) rfl 4 (by decide) (hts _ q1269) (fun _ h9 => h9) rfl dX12_carryAll_139 ?_
        refine lv_iload_n hx hb dX12_carryAll_142 rfl (lv_at hl 0 rfl) ?_
        refine li_zald (g := (τ 4)) hx hb hK hP 4 1 (aM_4 _ _ _ _ _) rfl (by omega) (by omega) (by decide) dX12_carryAll_143 ?_
        have hz := hz4 l1
        have J144 : ∀ (y144_0 : Int) (_ : y144_0 = τ 4 l1) (H : Heap) (locs : List Loc) (_ : va_P G gcl (wM am ty (up τ 43 (ug (ug (ug Gi at_ (τ 1 l1)) (at_ + 1) (τ 2 l1)) ((at_ + 1) + 1) (τ 3 l1))) (up ρ 44 (sc (((at_ + 1) + 1) + 1))) ++ cs) H) (_ : va_D A (wM am ty (up τ 43 (ug (ug (ug Gi at_ (τ 1 l1)) (at_ + 1) (τ 2 l1)) ((at_ + 1) + 1) (τ 3 l1))) (up ρ 44 (sc (((at_ + 1) + 1) + 1))) ++ cs)) (_ : va_S A s.heap H locs) (ls : Array Slot), lv_has ls 2 [(1, .int (ii l1)), (0, .ref (am 0))] → W p l e (rm4 1 0 0 21) s m args below meth c H locs 0 0 Q (F0 m 152 ls [.int (ii y144_0), .ref (am 0), .int (ii l1), .ref (am 4)]) := by
          intro y144_0 hj144 H locs hP hD hS ls hl
          refine kM (va_runV (As := [.int (ii y144_0)]) (rest := [.int (ii l1), .ref (am 4)]) ⟨hx, hb, hml, hown, hts⟩ ((m_carryT l G am ty (up τ 43 (ug (ug (ug Gi at_ (τ 1 l1)) (at_ + 1) (τ 2 l1)) ((at_ + 1) + 1) (τ 3 l1))) (up ρ 44 (sc (((at_ + 1) + 1) + 1))) cs y144_0 (show 0 ≤ (((at_ + 1) + 1) + 1) ∧ (((at_ + 1) + 1) + 1) < 50 from ⟨by omega, by omega⟩) (show (ρ 45 0) = 1 from h45)) H.size) (cwV 1 hts (lw_V q1695 q1697 qs73 q87 q1698) rfl rfl rfl (by decide +kernel) ⟨Nat.le_of_ble_eq_true rfl, Nat.le_of_ble_eq_true rfl⟩) (pvM (r := (RX12, TX12, 52)) hK hP hD hX 0 (aM_0 _ _ _ _ _) rfl) rfl rfl hl.1 rfl (lv_room (Nat.le_of_ble_eq_true rfl)) dX12_carryAll_152 ⟨Nat.le_of_ble_eq_true rfl, Nat.le_of_ble_eq_true rfl⟩) hD hS hA (fun v ws1 H locs hv hP hD hS => ?_)
          obtain ⟨rfl, rfl⟩ := hv
          have hP : va_P G gcl (wM am ty (up τ 43 (ug (ug (ug (ug Gi at_ (τ 1 l1)) (at_ + 1) (τ 2 l1)) ((at_ + 1) + 1) (τ 3 l1)) (((at_ + 1) + 1) + 1) y144_0)) (up ρ 44 (sc ((((at_ + 1) + 1) + 1) + 1))) ++ cs) H := hP
          have hD : va_D A (wM am ty (up τ 43 (ug (ug (ug (ug Gi at_ (τ 1 l1)) (at_ + 1) (τ 2 l1)) ((at_ + 1) + 1) (τ 3 l1)) (((at_ + 1) + 1) + 1) y144_0)) (up ρ 44 (sc ((((at_ + 1) + 1) + 1) + 1))) ++ cs) := hD
          refine li_iconst hx hb dX12_carryAll_155 ?_
          have J156 : ∀ (y156_0 : Int) (_ : y156_0 = τ 4 l1) (H : Heap) (locs : List Loc) (_ : va_P G gcl (wM am ty (up τ 43 (ug (ug (ug (ug Gi at_ (τ 1 l1)) (at_ + 1) (τ 2 l1)) ((at_ + 1) + 1) (τ 3 l1)) (((at_ + 1) + 1) + 1) y144_0)) (up ρ 44 (sc ((((at_ + 1) + 1) + 1) + 1))) ++ cs) H) (_ : va_D A (wM am ty (up τ 43 (ug (ug (ug (ug Gi at_ (τ 1 l1)) (at_ + 1) (τ 2 l1)) ((at_ + 1) + 1) (τ 3 l1)) (((at_ + 1) + 1) + 1) y144_0)) (up ρ 44 (sc ((((at_ + 1) + 1) + 1) + 1))) ++ cs)) (_ : va_S A s.heap H locs) (ls : Array Slot), lv_has ls 2 [(1, .int (ii l1)), (0, .ref (am 0))] → W p l e (rm4 1 0 0 21) s m args below meth c H locs 0 0 Q (F0 m 164 ls [.int (ii y156_0), .int (ii l1), .ref (am 4)]) := by
            intro y156_0 hj156 H locs hP hD hS ls hl
            refine li_zast (g := (τ 4)) (W2 := wM am ty (up (up τ 43 (ug (ug (ug (ug Gi at_ (τ 1 l1)) (at_ + 1) (τ 2 l1)) ((at_ + 1) + 1) (τ 3 l1)) (((at_ + 1) + 1) + 1) y144_0)) 4 (ug (τ 4) l1 y156_0)) (up ρ 44 (sc ((((at_ + 1) + 1) + 1) + 1))) ++ cs) hx hb hK hP hD hS 4 1 (aM_4 _ _ _ _ _) rfl (by omega) (by omega) (by decide) (by omega) rfl dX12_carryAll_164 (fun H locs hP hD hS => ?_)
            rw [(show ug (τ 4) l1 y156_0 = τ 4 from ug_same (by omega))] at hP hD
            have hP : va_P G gcl (wM am ty (up τ 43 (ug (ug (ug (ug Gi at_ (τ 1 l1)) (at_ + 1) (τ 2 l1)) ((at_ + 1) + 1) (τ 3 l1)) (((at_ + 1) + 1) + 1) y144_0)) (up ρ 44 (sc ((((at_ + 1) + 1) + 1) + 1))) ++ cs) H := hP
            have hD : va_D A (wM am ty (up τ 43 (ug (ug (ug (ug Gi at_ (τ 1 l1)) (at_ + 1) (τ 2 l1)) ((at_ + 1) + 1) (τ 3 l1)) (((at_ + 1) + 1) + 1) y144_0)) (up ρ 44 (sc ((((at_ + 1) + 1) + 1) + 1))) ++ cs) := hD
            refine li_iinc (a := l1) (lv' := [(1, .int (ii (l1 + 1))), (0, .ref (am 0))]) hx hb dX12_carryAll_165 hl (k := 0) rfl (by decide) rfl (fun ls hl => ?_)
            refine lv_goto (tgt := 79) hx hb dX12_carryAll_168 (by decide) ?_
            exact ih (l1 + 1) (ug (ug (ug (ug Gi at_ (τ 1 l1)) (at_ + 1) (τ 2 l1)) ((at_ + 1) + 1) (τ 3 l1)) (((at_ + 1) + 1) + 1) y144_0) ((((at_ + 1) + 1) + 1) + 1) (by omega) (by omega) (by omega) (by rw [show at_ + 1 + 1 + 1 = at_ + 3 by omega, show at_ + 1 + 1 = at_ + 2 by omega]; exact imgL_s hG hat hl0 ⟨rfl, rfl, rfl, hj144⟩) (by omega) H locs hP hD hS ls (lv_sub hl [0, 1] rfl)
          refine li_icmp_ne (tgt := 163) hx hb ⟨by omega, by omega⟩ ⟨by decide, by decide⟩ dX12_carryAll_156 (by decide) (fun c156 => ?_) (fun c156 => ?_)
          · refine li_iconst hx hb dX12_carryAll_163 ?_
            exact J156 0 (by omega) H locs hP hD hS ls (lv_sub hl [0, 1] rfl)
          · refine li_iconst hx hb dX12_carryAll_159 ?_
            refine lv_goto (tgt := 164) hx hb dX12_carryAll_160 (by decide) ?_
            exact J156 1 (by omega) H locs hP hD hS ls (lv_sub hl [0, 1] rfl)
        refine li_if_eq (tgt := 151) hx hb ⟨by omega, by omega⟩ dX12_carryAll_144 (by decide) (fun c144 => ?_) (fun c144 => ?_)
        · refine li_iconst hx hb dX12_carryAll_151 ?_
          exact J144 0 (by omega) H locs hP hD hS ls (lv_sub hl [0, 1] rfl)
        · refine li_iconst hx hb dX12_carryAll_147 ?_
          refine lv_goto (tgt := 152) hx hb dX12_carryAll_148 (by decide) ?_
          exact J144 1 (by omega) H locs hP hD hS ls (lv_sub hl [0, 1] rfl)
  exact L79 _ 0 (ug (ug (ug (ug (ug (ug (τ 43) 0 (τ 0 0)) (0 + 1) (τ 5 0)) ((0 + 1) + 1) (τ 7 0)) (((0 + 1) + 1) + 1) (τ 11 0)) ((((0 + 1) + 1) + 1) + 1) (τ 12 0)) (((((0 + 1) + 1) + 1) + 1) + 1) (τ 13 0)) ((((((0 + 1) + 1) + 1) + 1) + 1) + 1) (by omega) (by omega) (rfl) (⟨⟨rfl, rfl, rfl, rfl, rfl, rfl⟩, fun i a b => by omega⟩) (Nat.lt_succ_self _) H locs hP hD hS ls (lv_sub hl [0, 1] rfl)
set_option maxHeartbeats 4000000 in
theorem m_carryAllR (l : Launch) (G : va_G) (am : Nat → Nat) (ty : Nat → ClassId) (τ ρ : mem) (cs : va_W)   (h45 : (ρ 45 0) = 0) (hz4 : ∀ i, (τ 4) i = 0 ∨ (τ 4) i = 1) (hg4 : ∀ i, 0 ≤ i → i < 5 → (τ 43) (9 + 4 * i) = 0 ∨ (τ 43) (9 + 4 * i) = 1) : cM l yX12_carryAll (ws_ yX12_carryAll cX12_carryAll 2 none) (rm4 1 0 0 21) G ty (wM am ty τ ρ ++ cs) [.ref (am 0)] 0 0 (fun r W' => ∃ (a1 : Int → Int) (a2 : Int → Int) (a3 : Int → Int) (a4 : Int → Int) (a6 : Int → Int) (a9 : Int → Int) (a8 : Int → Int) (a10 : Int → Int), r = none ∧ W' = wM am ty (up (up (up (up (up (up (up (up (up (up (up (up (up (up τ 0 (sc ((τ 43) 0))) 5 (sc ((τ 43) 1))) 7 (sc ((τ 43) 2))) 11 (sc ((τ 43) 3))) 12 (sc ((τ 43) 4))) 13 (sc ((τ 43) 5))) 1 a1) 2 a2) 3 a3) 4 a4) 6 a6) 9 a9) 8 a8) 10 a10) (up ρ 44 (sc (36))) ++ cs ∧ (resP_all (τ 43) a1 a2 a3 a4 a6 a9 a8 a10) ∧ (∀ i, a4 i = 0 ∨ a4 i = 1)) := by
  refine cM.of (by decide) (Nat.le_of_ble_eq_true rfl) ?_
  intro p e s m args below meth c A Q H locs hQ hx hb hr hml hown hlk hname hts hK hP hD hS hA hX ls hl
  have hl : lv_has ls 2 [(0, .ref (am 0))] := hl
  refine lv_aload_n hx hb dX12_carryAll_0 rfl (lv_at hl 0 rfl) ?_
  refine li_iconst hx hb dX12_carryAll_1 ?_
  refine va_put (D := G) (ci := 11) (v := .int (ii 0)) (ty := .int) (C := RX12) (T := TX12) (N := 52) hx hb hts in_X12 tyX12 tyX12_ok nmX12 hown hK hP hD hS 0 (aM_0 _ _ _ _ _) rfl 44 (by decide) (hts _ q1309) (fun _ h9 => h9) rfl (tyX12_ok 44 (by decide)) rfl rfl (Nat.le_of_ble_eq_true rfl) dX12_carryAll_2 (fun H locs hP hD hS => ?_)
  have hP : va_P G gcl (wM am ty τ (up ρ 44 (sc (0))) ++ cs) H := hP
  have hD : va_D A (wM am ty τ (up ρ 44 (sc (0))) ++ cs) := hD
  refine lv_aload_n hx hb dX12_carryAll_5 rfl (lv_at hl 0 rfl) ?_
  refine lv_aload_n hx hb dX12_carryAll_6 rfl (lv_at hl 0 rfl) ?_
  refine lv_aload_n hx hb dX12_carryAll_7 rfl (lv_at hl 0 rfl) ?_
  refine va_get (D := G) (ci := 11) (v := .int (ii (τ 0 0))) (C := RX12) (T := TX12) (N := 52) hx hb hts in_X12 hown hK hP 0 (aM_0 _ _ _ _ _) rfl 0 (by decide) (hts _ q1265) (fun _ h9 => h9) rfl dX12_carryAll_8 ?_
  refine kM (va_runV (As := [.int (ii (τ 0 0))]) (rest := [.ref (am 0)]) ⟨hx, hb, hml, hown, hts⟩ ((m_carryR l G am ty τ (up ρ 44 (sc (0))) cs (τ 0 0) (show 0 ≤ 0 ∧ 0 < 50 from ⟨by omega, by omega⟩) (show (ρ 45 0) = 0 from h45)) H.size) (cwV 1 hts (lw_V q1695 q1697 qs73 q87 q1698) rfl rfl rfl (by decide +kernel) ⟨Nat.le_of_ble_eq_true rfl, Nat.le_of_ble_eq_true rfl⟩) (pvM (r := (RX12, TX12, 52)) hK hP hD hX 0 (aM_0 _ _ _ _ _) rfl) rfl rfl hl.1 rfl (lv_room (Nat.le_of_ble_eq_true rfl)) dX12_carryAll_11 ⟨Nat.le_of_ble_eq_true rfl, Nat.le_of_ble_eq_true rfl⟩) hD hS hA (fun v ws1 H locs hv hP hD hS => ?_)
  obtain ⟨rfl, rfl⟩ := hv
  have hP : va_P G gcl (wM am ty τ (up ρ 44 (sc (0 + 1))) ++ cs) H := hP
  have hD : va_D A (wM am ty τ (up ρ 44 (sc (0 + 1))) ++ cs) := hD
  refine li_top (b := ((τ 43) 0)) rfl ?_
  refine va_put (D := G) (ci := 11) (v := .int (ii ((τ 43) 0))) (ty := .int) (C := RX12) (T := TX12) (N := 52) hx hb hts in_X12 tyX12 tyX12_ok nmX12 hown hK hP hD hS 0 (aM_0 _ _ _ _ _) rfl 0 (by decide) (hts _ q1265) (fun _ h9 => h9) rfl (tyX12_ok 0 (by decide)) rfl rfl (Nat.le_of_ble_eq_true rfl) dX12_carryAll_14 (fun H locs hP hD hS => ?_)
  have hP : va_P G gcl (wM am ty (up τ 0 (sc ((τ 43) 0))) (up ρ 44 (sc (0 + 1))) ++ cs) H := hP
  have hD : va_D A (wM am ty (up τ 0 (sc ((τ 43) 0))) (up ρ 44 (sc (0 + 1))) ++ cs) := hD
  refine lv_aload_n hx hb dX12_carryAll_17 rfl (lv_at hl 0 rfl) ?_
  refine lv_aload_n hx hb dX12_carryAll_18 rfl (lv_at hl 0 rfl) ?_
  refine lv_aload_n hx hb dX12_carryAll_19 rfl (lv_at hl 0 rfl) ?_
  refine va_get (D := G) (ci := 11) (v := .int (ii (τ 5 0))) (C := RX12) (T := TX12) (N := 52) hx hb hts in_X12 hown hK hP 0 (aM_0 _ _ _ _ _) rfl 5 (by decide) (hts _ q1270) (fun _ h9 => h9) rfl dX12_carryAll_20 ?_
  refine kM (va_runV (As := [.int (ii (τ 5 0))]) (rest := [.ref (am 0)]) ⟨hx, hb, hml, hown, hts⟩ ((m_carryR l G am ty (up τ 0 (sc ((τ 43) 0))) (up ρ 44 (sc (0 + 1))) cs (τ 5 0) (show 0 ≤ (0 + 1) ∧ (0 + 1) < 50 from ⟨by omega, by omega⟩) (show (ρ 45 0) = 0 from h45)) H.size) (cwV 1 hts (lw_V q1695 q1697 qs73 q87 q1698) rfl rfl rfl (by decide +kernel) ⟨Nat.le_of_ble_eq_true rfl, Nat.le_of_ble_eq_true rfl⟩) (pvM (r := (RX12, TX12, 52)) hK hP hD hX 0 (aM_0 _ _ _ _ _) rfl) rfl rfl hl.1 rfl (lv_room (Nat.le_of_ble_eq_true rfl)) dX12_carryAll_23 ⟨Nat.le_of_ble_eq_true rfl, Nat.le_of_ble_eq_true rfl⟩) hD hS hA (fun v ws1 H locs hv hP hD hS => ?_)
  obtain ⟨rfl, rfl⟩ := hv
  have hP : va_P G gcl (wM am ty (up τ 0 (sc ((τ 43) 0))) (up ρ 44 (sc ((0 + 1) + 1))) ++ cs) H := hP
  have hD : va_D A (wM am ty (up τ 0 (sc ((τ 43) 0))) (up ρ 44 (sc ((0 + 1) + 1))) ++ cs) := hD
  refine li_top (b := ((τ 43) (0 + 1))) rfl ?_
  refine va_put (D := G) (ci := 11) (v := .int (ii ((τ 43) (0 + 1)))) (ty := .int) (C := RX12) (T := TX12) (N := 52) hx hb hts in_X12 tyX12 tyX12_ok nmX12 hown hK hP hD hS 0 (aM_0 _ _ _ _ _) rfl 5 (by decide) (hts _ q1270) (fun _ h9 => h9) rfl (tyX12_ok 5 (by decide)) rfl rfl (Nat.le_of_ble_eq_true rfl) dX12_carryAll_26 (fun H locs hP hD hS => ?_)
  have hP : va_P G gcl (wM am ty (up (up τ 0 (sc ((τ 43) 0))) 5 (sc ((τ 43) (0 + 1)))) (up ρ 44 (sc ((0 + 1) + 1))) ++ cs) H := hP
  have hD : va_D A (wM am ty (up (up τ 0 (sc ((τ 43) 0))) 5 (sc ((τ 43) (0 + 1)))) (up ρ 44 (sc ((0 + 1) + 1))) ++ cs) := hD
  refine lv_aload_n hx hb dX12_carryAll_29 rfl (lv_at hl 0 rfl) ?_
  refine lv_aload_n hx hb dX12_carryAll_30 rfl (lv_at hl 0 rfl) ?_
  refine lv_aload_n hx hb dX12_carryAll_31 rfl (lv_at hl 0 rfl) ?_
  refine va_get (D := G) (ci := 11) (v := .int (ii (τ 7 0))) (C := RX12) (T := TX12) (N := 52) hx hb hts in_X12 hown hK hP 0 (aM_0 _ _ _ _ _) rfl 7 (by decide) (hts _ q1272) (fun _ h9 => h9) rfl dX12_carryAll_32 ?_
  refine kM (va_runV (As := [.int (ii (τ 7 0))]) (rest := [.ref (am 0)]) ⟨hx, hb, hml, hown, hts⟩ ((m_carryR l G am ty (up (up τ 0 (sc ((τ 43) 0))) 5 (sc ((τ 43) (0 + 1)))) (up ρ 44 (sc ((0 + 1) + 1))) cs (τ 7 0) (show 0 ≤ ((0 + 1) + 1) ∧ ((0 + 1) + 1) < 50 from ⟨by omega, by omega⟩) (show (ρ 45 0) = 0 from h45)) H.size) (cwV 1 hts (lw_V q1695 q1697 qs73 q87 q1698) rfl rfl rfl (by decide +kernel) ⟨Nat.le_of_ble_eq_true rfl, Nat.le_of_ble_eq_true rfl⟩) (pvM (r := (RX12, TX12, 52)) hK hP hD hX 0 (aM_0 _ _ _ _ _) rfl) rfl rfl hl.1 rfl (lv_room (Nat.le_of_ble_eq_true rfl)) dX12_carryAll_35 ⟨Nat.le_of_ble_eq_true rfl, Nat.le_of_ble_eq_true rfl⟩) hD hS hA (fun v ws1 H locs hv hP hD hS => ?_)
  obtain ⟨rfl, rfl⟩ := hv
  have hP : va_P G gcl (wM am ty (up (up τ 0 (sc ((τ 43) 0))) 5 (sc ((τ 43) (0 + 1)))) (up ρ 44 (sc (((0 + 1) + 1) + 1))) ++ cs) H := hP
  have hD : va_D A (wM am ty (up (up τ 0 (sc ((τ 43) 0))) 5 (sc ((τ 43) (0 + 1)))) (up ρ 44 (sc (((0 + 1) + 1) + 1))) ++ cs) := hD
  refine li_top (b := ((τ 43) ((0 + 1) + 1))) rfl ?_
  refine va_put (D := G) (ci := 11) (v := .int (ii ((τ 43) ((0 + 1) + 1)))) (ty := .int) (C := RX12) (T := TX12) (N := 52) hx hb hts in_X12 tyX12 tyX12_ok nmX12 hown hK hP hD hS 0 (aM_0 _ _ _ _ _) rfl 7 (by decide) (hts _ q1272) (fun _ h9 => h9) rfl (tyX12_ok 7 (by decide)) rfl rfl (Nat.le_of_ble_eq_true rfl) dX12_carryAll_38 (fun H locs hP hD hS => ?_)
  have hP : va_P G gcl (wM am ty (up (up (up τ 0 (sc ((τ 43) 0))) 5 (sc ((τ 43) (0 + 1)))) 7 (sc ((τ 43) ((0 + 1) + 1)))) (up ρ 44 (sc (((0 + 1) + 1) + 1))) ++ cs) H := hP
  have hD : va_D A (wM am ty (up (up (up τ 0 (sc ((τ 43) 0))) 5 (sc ((τ 43) (0 + 1)))) 7 (sc ((τ 43) ((0 + 1) + 1)))) (up ρ 44 (sc (((0 + 1) + 1) + 1))) ++ cs) := hD
  refine lv_aload_n hx hb dX12_carryAll_41 rfl (lv_at hl 0 rfl) ?_
  refine lv_aload_n hx hb dX12_carryAll_42 rfl (lv_at hl 0 rfl) ?_
  refine lv_aload_n hx hb dX12_carryAll_43 rfl (lv_at hl 0 rfl) ?_
  refine va_get (D := G) (ci := 11) (v := .int (ii (τ 11 0))) (C := RX12) (T := TX12) (N := 52) hx hb hts in_X12 hown hK hP 0 (aM_0 _ _ _ _ _) rfl 11 (by decide) (hts _ q1276) (fun _ h9 => h9) rfl dX12_carryAll_44 ?_
  refine kM (va_runV (As := [.int (ii (τ 11 0))]) (rest := [.ref (am 0)]) ⟨hx, hb, hml, hown, hts⟩ ((m_carryR l G am ty (up (up (up τ 0 (sc ((τ 43) 0))) 5 (sc ((τ 43) (0 + 1)))) 7 (sc ((τ 43) ((0 + 1) + 1)))) (up ρ 44 (sc (((0 + 1) + 1) + 1))) cs (τ 11 0) (show 0 ≤ (((0 + 1) + 1) + 1) ∧ (((0 + 1) + 1) + 1) < 50 from ⟨by omega, by omega⟩) (show (ρ 45 0) = 0 from h45)) H.size) (cwV 1 hts (lw_V q1695 q1697 qs73 q87 q1698) rfl rfl rfl (by decide +kernel) ⟨Nat.le_of_ble_eq_true rfl, Nat.le_of_ble_eq_true rfl⟩) (pvM (r := (RX12, TX12, 52)) hK hP hD hX 0 (aM_0 _ _ _ _ _) rfl) rfl rfl hl.1 rfl (lv_room (Nat.le_of_ble_eq_true rfl)) dX12_carryAll_47 ⟨Nat.le_of_ble_eq_true rfl, Nat.le_of_ble_eq_true rfl⟩) hD hS hA (fun v ws1 H locs hv hP hD hS => ?_)
  obtain ⟨rfl, rfl⟩ := hv
  have hP : va_P G gcl (wM am ty (up (up (up τ 0 (sc ((τ 43) 0))) 5 (sc ((τ 43) (0 + 1)))) 7 (sc ((τ 43) ((0 + 1) + 1)))) (up ρ 44 (sc ((((0 + 1) + 1) + 1) + 1))) ++ cs) H := hP
  have hD : va_D A (wM am ty (up (up (up τ 0 (sc ((τ 43) 0))) 5 (sc ((τ 43) (0 + 1)))) 7 (sc ((τ 43) ((0 + 1) + 1)))) (up ρ 44 (sc ((((0 + 1) + 1) + 1) + 1))) ++ cs) := hD
  refine li_top (b := ((τ 43) (((0 + 1) + 1) + 1))) rfl ?_
  refine va_put (D := G) (ci := 11) (v := .int (ii ((τ 43) (((0 + 1) + 1) + 1)))) (ty := .int) (C := RX12) (T := TX12) (N := 52) hx hb hts in_X12 tyX12 tyX12_ok nmX12 hown hK hP hD hS 0 (aM_0 _ _ _ _ _) rfl 11 (by decide) (hts _ q1276) (fun _ h9 => h9) rfl (tyX12_ok 11 (by decide)) rfl rfl (Nat.le_of_ble_eq_true rfl) dX12_carryAll_50 (fun H locs hP hD hS => ?_)
  have hP : va_P G gcl (wM am ty (up (up (up (up τ 0 (sc ((τ 43) 0))) 5 (sc ((τ 43) (0 + 1)))) 7 (sc ((τ 43) ((0 + 1) + 1)))) 11 (sc ((τ 43) (((0 + 1) + 1) + 1)))) (up ρ 44 (sc ((((0 + 1) + 1) + 1) + 1))) ++ cs) H := hP
  have hD : va_D A (wM am ty (up (up (up (up τ 0 (sc ((τ 43) 0))) 5 (sc ((τ 43) (0 + 1)))) 7 (sc ((τ 43) ((0 + 1) + 1)))) 11 (sc ((τ 43) (((0 + 1) + 1) + 1)))) (up ρ 44 (sc ((((0 + 1) + 1) + 1) + 1))) ++ cs) := hD
  refine lv_aload_n hx hb dX12_carryAll_53 rfl (lv_at hl 0 rfl) ?_
  refine lv_aload_n hx hb dX12_carryAll_54 rfl (lv_at hl 0 rfl) ?_
  refine lv_aload_n hx hb dX12_carryAll_55 rfl (lv_at hl 0 rfl) ?_
  refine va_get (D := G) (ci := 11) (v := .int (ii (τ 12 0))) (C := RX12) (T := TX12) (N := 52) hx hb hts in_X12 hown hK hP 0 (aM_0 _ _ _ _ _) rfl 12 (by decide) (hts _ q1277) (fun _ h9 => h9) rfl dX12_carryAll_56 ?_
  refine kM (va_runV (As := [.int (ii (τ 12 0))]) (rest := [.ref (am 0)]) ⟨hx, hb, hml, hown, hts⟩ ((m_carryR l G am ty (up (up (up (up τ 0 (sc ((τ 43) 0))) 5 (sc ((τ 43) (0 + 1)))) 7 (sc ((τ 43) ((0 + 1) + 1)))) 11 (sc ((τ 43) (((0 + 1) + 1) + 1)))) (up ρ 44 (sc ((((0 + 1) + 1) + 1) + 1))) cs (τ 12 0) (show 0 ≤ ((((0 + 1) + 1) + 1) + 1) ∧ ((((0 + 1) + 1) + 1) + 1) < 50 from ⟨by omega, by omega⟩) (show (ρ 45 0) = 0 from h45)) H.size) (cwV 1 hts (lw_V q1695 q1697 qs73 q87 q1698) rfl rfl rfl (by decide +kernel) ⟨Nat.le_of_ble_eq_true rfl, Nat.le_of_ble_eq_true rfl⟩) (pvM (r := (RX12, TX12, 52)) hK hP hD hX 0 (aM_0 _ _ _ _ _) rfl) rfl rfl hl.1 rfl (lv_room (Nat.le_of_ble_eq_true rfl)) dX12_carryAll_59 ⟨Nat.le_of_ble_eq_true rfl, Nat.le_of_ble_eq_true rfl⟩) hD hS hA (fun v ws1 H locs hv hP hD hS => ?_)
  obtain ⟨rfl, rfl⟩ := hv
  have hP : va_P G gcl (wM am ty (up (up (up (up τ 0 (sc ((τ 43) 0))) 5 (sc ((τ 43) (0 + 1)))) 7 (sc ((τ 43) ((0 + 1) + 1)))) 11 (sc ((τ 43) (((0 + 1) + 1) + 1)))) (up ρ 44 (sc (((((0 + 1) + 1) + 1) + 1) + 1))) ++ cs) H := hP
  have hD : va_D A (wM am ty (up (up (up (up τ 0 (sc ((τ 43) 0))) 5 (sc ((τ 43) (0 + 1)))) 7 (sc ((τ 43) ((0 + 1) + 1)))) 11 (sc ((τ 43) (((0 + 1) + 1) + 1)))) (up ρ 44 (sc (((((0 + 1) + 1) + 1) + 1) + 1))) ++ cs) := hD
  refine li_top (b := ((τ 43) ((((0 + 1) + 1) + 1) + 1))) rfl ?_
  refine va_put (D := G) (ci := 11) (v := .int (ii ((τ 43) ((((0 + 1) + 1) + 1) + 1)))) (ty := .int) (C := RX12) (T := TX12) (N := 52) hx hb hts in_X12 tyX12 tyX12_ok nmX12 hown hK hP hD hS 0 (aM_0 _ _ _ _ _) rfl 12 (by decide) (hts _ q1277) (fun _ h9 => h9) rfl (tyX12_ok 12 (by decide)) rfl rfl (Nat.le_of_ble_eq_true rfl) dX12_carryAll_62 (fun H locs hP hD hS => ?_)
  have hP : va_P G gcl (wM am ty (up (up (up (up (up τ 0 (sc ((τ 43) 0))) 5 (sc ((τ 43) (0 + 1)))) 7 (sc ((τ 43) ((0 + 1) + 1)))) 11 (sc ((τ 43) (((0 + 1) + 1) + 1)))) 12 (sc ((τ 43) ((((0 + 1) + 1) + 1) + 1)))) (up ρ 44 (sc (((((0 + 1) + 1) + 1) + 1) + 1))) ++ cs) H := hP
  have hD : va_D A (wM am ty (up (up (up (up (up τ 0 (sc ((τ 43) 0))) 5 (sc ((τ 43) (0 + 1)))) 7 (sc ((τ 43) ((0 + 1) + 1)))) 11 (sc ((τ 43) (((0 + 1) + 1) + 1)))) 12 (sc ((τ 43) ((((0 + 1) + 1) + 1) + 1)))) (up ρ 44 (sc (((((0 + 1) + 1) + 1) + 1) + 1))) ++ cs) := hD
  refine lv_aload_n hx hb dX12_carryAll_65 rfl (lv_at hl 0 rfl) ?_
  refine lv_aload_n hx hb dX12_carryAll_66 rfl (lv_at hl 0 rfl) ?_
  refine lv_aload_n hx hb dX12_carryAll_67 rfl (lv_at hl 0 rfl) ?_
  refine va_get (D := G) (ci := 11) (v := .int (ii (τ 13 0))) (C := RX12) (T := TX12) (N := 52) hx hb hts in_X12 hown hK hP 0 (aM_0 _ _ _ _ _) rfl 13 (by decide) (hts _ q1278) (fun _ h9 => h9) rfl dX12_carryAll_68 ?_
  refine kM (va_runV (As := [.int (ii (τ 13 0))]) (rest := [.ref (am 0)]) ⟨hx, hb, hml, hown, hts⟩ ((m_carryR l G am ty (up (up (up (up (up τ 0 (sc ((τ 43) 0))) 5 (sc ((τ 43) (0 + 1)))) 7 (sc ((τ 43) ((0 + 1) + 1)))) 11 (sc ((τ 43) (((0 + 1) + 1) + 1)))) 12 (sc ((τ 43) ((((0 + 1) + 1) + 1) + 1)))) (up ρ 44 (sc (((((0 + 1) + 1) + 1) + 1) + 1))) cs (τ 13 0) (show 0 ≤ (((((0 + 1) + 1) + 1) + 1) + 1) ∧ (((((0 + 1) + 1) + 1) + 1) + 1) < 50 from ⟨by omega, by omega⟩) (show (ρ 45 0) = 0 from h45)) H.size) (cwV 1 hts (lw_V q1695 q1697 qs73 q87 q1698) rfl rfl rfl (by decide +kernel) ⟨Nat.le_of_ble_eq_true rfl, Nat.le_of_ble_eq_true rfl⟩) (pvM (r := (RX12, TX12, 52)) hK hP hD hX 0 (aM_0 _ _ _ _ _) rfl) rfl rfl hl.1 rfl (lv_room (Nat.le_of_ble_eq_true rfl)) dX12_carryAll_71 ⟨Nat.le_of_ble_eq_true rfl, Nat.le_of_ble_eq_true rfl⟩) hD hS hA (fun v ws1 H locs hv hP hD hS => ?_)
  obtain ⟨rfl, rfl⟩ := hv
  have hP : va_P G gcl (wM am ty (up (up (up (up (up τ 0 (sc ((τ 43) 0))) 5 (sc ((τ 43) (0 + 1)))) 7 (sc ((τ 43) ((0 + 1) + 1)))) 11 (sc ((τ 43) (((0 + 1) + 1) + 1)))) 12 (sc ((τ 43) ((((0 + 1) + 1) + 1) + 1)))) (up ρ 44 (sc ((((((0 + 1) + 1) + 1) + 1) + 1) + 1))) ++ cs) H := hP
  have hD : va_D A (wM am ty (up (up (up (up (up τ 0 (sc ((τ 43) 0))) 5 (sc ((τ 43) (0 + 1)))) 7 (sc ((τ 43) ((0 + 1) + 1)))) 11 (sc ((τ 43) (((0 + 1) + 1) + 1)))) 12 (sc ((τ 43) ((((0 + 1) + 1) + 1) + 1)))) (up ρ 44 (sc ((((((0 + 1) + 1) + 1) + 1) + 1) + 1))) ++ cs) := hD
  refine li_top (b := ((τ 43) (((((0 + 1) + 1) + 1) + 1) + 1))) rfl ?_
  refine va_put (D := G) (ci := 11) (v := .int (ii ((τ 43) (((((0 + 1) + 1) + 1) + 1) + 1)))) (ty := .int) (C := RX12) (T := TX12) (N := 52) hx hb hts in_X12 tyX12 tyX12_ok nmX12 hown hK hP hD hS 0 (aM_0 _ _ _ _ _) rfl 13 (by decide) (hts _ q1278) (fun _ h9 => h9) rfl (tyX12_ok 13 (by decide)) rfl rfl (Nat.le_of_ble_eq_true rfl) dX12_carryAll_74 (fun H locs hP hD hS => ?_)
  have hP : va_P G gcl (wM am ty (up (up (up (up (up (up τ 0 (sc ((τ 43) 0))) 5 (sc ((τ 43) (0 + 1)))) 7 (sc ((τ 43) ((0 + 1) + 1)))) 11 (sc ((τ 43) (((0 + 1) + 1) + 1)))) 12 (sc ((τ 43) ((((0 + 1) + 1) + 1) + 1)))) 13 (sc ((τ 43) (((((0 + 1) + 1) + 1) + 1) + 1)))) (up ρ 44 (sc ((((((0 + 1) + 1) + 1) + 1) + 1) + 1))) ++ cs) H := hP
  have hD : va_D A (wM am ty (up (up (up (up (up (up τ 0 (sc ((τ 43) 0))) 5 (sc ((τ 43) (0 + 1)))) 7 (sc ((τ 43) ((0 + 1) + 1)))) 11 (sc ((τ 43) (((0 + 1) + 1) + 1)))) 12 (sc ((τ 43) ((((0 + 1) + 1) + 1) + 1)))) 13 (sc ((τ 43) (((((0 + 1) + 1) + 1) + 1) + 1)))) (up ρ 44 (sc ((((((0 + 1) + 1) + 1) + 1) + 1) + 1))) ++ cs) := hD
  refine li_iconst hx hb dX12_carryAll_77 ?_
  refine lv_istore_n (lv' := [(1, .int (ii 0)), (0, .ref (am 0))]) hx hb dX12_carryAll_78 rfl hl (by decide) rfl (fun ls hl => ?_)
  have X79 : ∀ (l1 : Int) (b1 : Int → Int) (b2 : Int → Int) (b3 : Int → Int) (b4 : Int → Int) (at_ : Int) (_ : at_ = 26) (_ : ∀ i, b4 i = 0 ∨ b4 i = 1) (_ : resL (τ 43) b1 b2 b3 b4 5) (H : Heap) (locs : List Loc) (_ : va_P G gcl (wM am ty (up (up (up (up (up (up (up (up (up (up τ 0 (sc ((τ 43) 0))) 5 (sc ((τ 43) (0 + 1)))) 7 (sc ((τ 43) ((0 + 1) + 1)))) 11 (sc ((τ 43) (((0 + 1) + 1) + 1)))) 12 (sc ((τ 43) ((((0 + 1) + 1) + 1) + 1)))) 13 (sc ((τ 43) (((((0 + 1) + 1) + 1) + 1) + 1)))) 1 b1) 2 b2) 3 b3) 4 b4) (up ρ 44 (sc (at_))) ++ cs) H) (_ : va_D A (wM am ty (up (up (up (up (up (up (up (up (up (up τ 0 (sc ((τ 43) 0))) 5 (sc ((τ 43) (0 + 1)))) 7 (sc ((τ 43) ((0 + 1) + 1)))) 11 (sc ((τ 43) (((0 + 1) + 1) + 1)))) 12 (sc ((τ 43) ((((0 + 1) + 1) + 1) + 1)))) 13 (sc ((τ 43) (((((0 + 1) + 1) + 1) + 1) + 1)))) 1 b1) 2 b2) 3 b3) 4 b4) (up ρ 44 (sc (at_))) ++ cs)) (_ : va_S A s.heap H locs) (ls : Array Slot), lv_has ls 2 [(0, .ref (am 0))] → W p l e (rm4 1 0 0 21) s m args below meth c H locs 0 0 Q (F0 m 171 ls []) := by
    intro l1 b1 b2 b3 b4 at_ hat hz4 hG H locs hP hD hS ls hl
    refine li_iconst hx hb dX12_carryAll_171 ?_
    refine lv_istore_n (lv' := [(1, .int (ii 0)), (0, .ref (am 0))]) hx hb dX12_carryAll_172 rfl hl (by decide) rfl (fun ls hl => ?_)
    have X173 : ∀ (l1 : Int) (b6 : Int → Int) (b9 : Int → Int) (at_ : Int) (_ : at_ = 32) (_ : res2 (τ 43) 26 b6 b9 3) (H : Heap) (locs : List Loc) (_ : va_P G gcl (wM am ty (up (up (up (up (up (up (up (up (up (up (up (up τ 0 (sc ((τ 43) 0))) 5 (sc ((τ 43) (0 + 1)))) 7 (sc ((τ 43) ((0 + 1) + 1)))) 11 (sc ((τ 43) (((0 + 1) + 1) + 1)))) 12 (sc ((τ 43) ((((0 + 1) + 1) + 1) + 1)))) 13 (sc ((τ 43) (((((0 + 1) + 1) + 1) + 1) + 1)))) 1 b1) 2 b2) 3 b3) 4 b4) 6 b6) 9 b9) (up ρ 44 (sc (at_))) ++ cs) H) (_ : va_D A (wM am ty (up (up (up (up (up (up (up (up (up (up (up (up τ 0 (sc ((τ 43) 0))) 5 (sc ((τ 43) (0 + 1)))) 7 (sc ((τ 43) ((0 + 1) + 1)))) 11 (sc ((τ 43) (((0 + 1) + 1) + 1)))) 12 (sc ((τ 43) ((((0 + 1) + 1) + 1) + 1)))) 13 (sc ((τ 43) (((((0 + 1) + 1) + 1) + 1) + 1)))) 1 b1) 2 b2) 3 b3) 4 b4) 6 b6) 9 b9) (up ρ 44 (sc (at_))) ++ cs)) (_ : va_S A s.heap H locs) (ls : Array Slot), lv_has ls 2 [(0, .ref (am 0))] → W p l e (rm4 1 0 0 21) s m args below meth c H locs 0 0 Q (F0 m 216 ls []) := by
      intro l1 b6 b9 at_ hat hG2 H locs hP hD hS ls hl
      refine li_iconst hx hb dX12_carryAll_216 ?_
      refine lv_istore_n (lv' := [(1, .int (ii 0)), (0, .ref (am 0))]) hx hb dX12_carryAll_217 rfl hl (by decide) rfl (fun ls hl => ?_)
      have L218 : ∀ (n : Nat) (l1 : Int) (b8 : Int → Int) (b10 : Int → Int) (at_ : Int) (_ : 0 ≤ l1) (_ : l1 ≤ 2) (_ : at_ = 32 + 2 * l1) (_ : res2 (τ 43) 32 b8 b10 l1) (_ : (2 - l1).toNat < n) (H : Heap) (locs : List Loc) (_ : va_P G gcl (wM am ty (up (up (up (up (up (up (up (up (up (up (up (up (up (up τ 0 (sc ((τ 43) 0))) 5 (sc ((τ 43) (0 + 1)))) 7 (sc ((τ 43) ((0 + 1) + 1)))) 11 (sc ((τ 43) (((0 + 1) + 1) + 1)))) 12 (sc ((τ 43) ((((0 + 1) + 1) + 1) + 1)))) 13 (sc ((τ 43) (((((0 + 1) + 1) + 1) + 1) + 1)))) 1 b1) 2 b2) 3 b3) 4 b4) 6 b6) 9 b9) 8 b8) 10 b10) (up ρ 44 (sc (at_))) ++ cs) H) (_ : va_D A (wM am ty (up (up (up (up (up (up (up (up (up (up (up (up (up (up τ 0 (sc ((τ 43) 0))) 5 (sc ((τ 43) (0 + 1)))) 7 (sc ((τ 43) ((0 + 1) + 1)))) 11 (sc ((τ 43) (((0 + 1) + 1) + 1)))) 12 (sc ((τ 43) ((((0 + 1) + 1) + 1) + 1)))) 13 (sc ((τ 43) (((((0 + 1) + 1) + 1) + 1) + 1)))) 1 b1) 2 b2) 3 b3) 4 b4) 6 b6) 9 b9) 8 b8) 10 b10) (up ρ 44 (sc (at_))) ++ cs)) (_ : va_S A s.heap H locs) (ls : Array Slot), lv_has ls 2 [(1, .int (ii l1)), (0, .ref (am 0))] → W p l e (rm4 1 0 0 21) s m args below meth c H locs 0 0 Q (F0 m 218 ls []) := by
        intro n
        induction n with
        | zero =>
          intro l1 b8 b10 at_ hl0 hl5 hat hG3 hm
          exact absurd hm (Nat.not_lt_zero _)
        | succ n ih =>
          intro l1 b8 b10 at_ hl0 hl5 hat hG3 hm H locs hP hD hS ls hl
          refine lv_iload_n hx hb dX12_carryAll_218 rfl (lv_at hl 0 rfl) ?_
          refine li_iconst hx hb dX12_carryAll_219 ?_
          refine li_icmp_ge (tgt := 261) hx hb ⟨by omega, by omega⟩ ⟨by decide, by decide⟩ dX12_carryAll_220 (by decide) (fun c220 => ?_) (fun c220 => ?_)
          · exact eMv hQ hx hb hr hlk hP hD hS (Nat.le_of_ble_eq_true rfl) (Nat.le_of_ble_eq_true rfl) dX12_carryAll_261 (⟨b1, b2, b3, b4, b6, b9, b8, b10, rfl, by rw [show at_ = 36 by omega]; rfl, ⟨hG, hG2, by rw [show l1 = 2 by omega] at hG3; exact hG3⟩, hz4⟩)
          · refine lv_aload_n hx hb dX12_carryAll_223 rfl (lv_at hl 1 rfl) ?_
            refine va_get (D := G) (ci := 11) (v := .ref (am 6)) (C := RX12) (T := TX12) (N := 52) hx hb hts in_X12 hown hK hP 0 (aM_0 _ _ _ _ _) rfl 8 (by decide) (hts _ q1273) (fun _ h9 => h9) rfl dX12_carryAll_224 ?_
            refine lv_iload_n hx hb dX12_carryAll_227 rfl (lv_at hl 0 rfl) ?_
            refine lv_aload_n hx hb dX12_carryAll_228 rfl (lv_at hl 1 rfl) ?_
            refine lv_aload_n hx hb dX12_carryAll_229 rfl (lv_at hl 1 rfl) ?_
            refine va_get (D := G) (ci := 11) (v := .ref (am 6)) (C := RX12) (T := TX12) (N := 52) hx hb hts in_X12 hown hK hP 0 (aM_0 _ _ _ _ _) rfl 8 (by decide) (hts _ q1273) (fun _ h9 => h9) rfl dX12_carryAll_230 ?_
            refine lv_iload_n hx hb dX12_carryAll_233 rfl (lv_at hl 0 rfl) ?_
            refine li_iald (g := b8) hx hb hK hP 6 0 (aM_6 _ _ _ _ _) rfl (by omega) (by omega) (by decide) dX12_carryAll_234 ?_
            refine kM (va_runV (As := [.int (ii (b8 l1))]) (rest := [.int (ii l1), .ref (am 6)]) ⟨hx, hb, hml, hown, hts⟩ ((m_carryR l G am ty (up (up (up (up (up (up (up (up (up (up (up (up (up (up τ 0 (sc ((τ 43) 0))) 5 (sc ((τ 43) (0 + 1)))) 7 (sc ((τ 43) ((0 + 1) + 1)))) 11 (sc ((τ 43) (((0 + 1) + 1) + 1)))) 12 (sc ((τ 43) ((((0 + 1) + 1) + 1) + 1)))) 13 (sc ((τ 43) (((((0 + 1) + 1) + 1) + 1) + 1)))) 1 b1) 2 b2) 3 b3) 4 b4) 6 b6) 9 b9) 8 b8) 10 b10) (up ρ 44 (sc (at_))) cs (b8 l1) (show 0 ≤ at_ ∧ at_ < 50 from ⟨by omega, by omega⟩) (show (ρ 45 0) = 0 from h45)) H.size) (cwV 1 hts (lw_V q1695 q1697 qs73 q87 q1698) rfl rfl rfl (by decide +kernel) ⟨Nat.le_of_ble_eq_true rfl, Nat.le_of_ble_eq_true rfl⟩) (pvM (r := (RX12, TX12, 52)) hK hP hD hX 0 (aM_0 _ _ _ _ _) rfl) rfl rfl hl.1 rfl (lv_room (Nat.le_of_ble_eq_true rfl)) dX12_carryAll_235 ⟨Nat.le_of_ble_eq_true rfl, Nat.le_of_ble_eq_true rfl⟩) hD hS hA (fun v ws1 H locs hv hP hD hS => ?_)
            obtain ⟨rfl, rfl⟩ := hv
            have hP : va_P G gcl (wM am ty (up (up (up (up (up (up (up (up (up (up (up (up (up (up τ 0 (sc ((τ 43) 0))) 5 (sc ((τ 43) (0 + 1)))) 7 (sc ((τ 43) ((0 + 1) + 1)))) 11 (sc ((τ 43) (((0 + 1) + 1) + 1)))) 12 (sc ((τ 43) ((((0 + 1) + 1) + 1) + 1)))) 13 (sc ((τ 43) (((((0 + 1) + 1) + 1) + 1) + 1)))) 1 b1) 2 b2) 3 b3) 4 b4) 6 b6) 9 b9) 8 b8) 10 b10) (up ρ 44 (sc (at_ + 1))) ++ cs) H := hP
            have hD : va_D A (wM am ty (up (up (up (up (up (up (up (up (up (up (up (up (up (up τ 0 (sc ((τ 43) 0))) 5 (sc ((τ 43) (0 + 1)))) 7 (sc ((τ 43) ((0 + 1) + 1)))) 11 (sc ((τ 43) (((0 + 1) + 1) + 1)))) 12 (sc ((τ 43) ((((0 + 1) + 1) + 1) + 1)))) 13 (sc ((τ 43) (((((0 + 1) + 1) + 1) + 1) + 1)))) 1 b1) 2 b2) 3 b3) 4 b4) 6 b6) 9 b9) 8 b8) 10 b10) (up ρ 44 (sc (at_ + 1))) ++ cs) := hD
            refine li_top (b := ((τ 43) at_)) rfl ?_
            refine li_iast (g := b8) (W2 := wM am ty (up (up (up (up (up (up (up (up (up (up (up (up (up (up τ 0 (sc ((τ 43) 0))) 5 (sc ((τ 43) (0 + 1)))) 7 (sc ((τ 43) ((0 + 1) + 1)))) 11 (sc ((τ 43) (((0 + 1) + 1) + 1)))) 12 (sc ((τ 43) ((((0 + 1) + 1) + 1) + 1)))) 13 (sc ((τ 43) (((((0 + 1) + 1) + 1) + 1) + 1)))) 1 b1) 2 b2) 3 b3) 4 b4) 6 b6) 9 b9) 10 b10) 8 (ug b8 l1 ((τ 43) at_))) (up ρ 44 (sc (at_ + 1))) ++ cs) hx hb hK hP hD hS 6 0 (aM_6 _ _ _ _ _) rfl (by omega) (by omega) (by decide) rfl dX12_carryAll_238 (fun H locs hP hD hS => ?_)
            refine lv_aload_n hx hb dX12_carryAll_239 rfl (lv_at hl 1 rfl) ?_
            refine va_get (D := G) (ci := 11) (v := .ref (am 8)) (C := RX12) (T := TX12) (N := 52) hx hb hts in_X12 hown hK hP 0 (aM_0 _ _ _ _ _) rfl 10 (by decide) (hts _ q1275) (fun _ h9 => h9) rfl dX12_carryAll_240 ?_
            refine lv_iload_n hx hb dX12_carryAll_243 rfl (lv_at hl 0 rfl) ?_
            refine lv_aload_n hx hb dX12_carryAll_244 rfl (lv_at hl 1 rfl) ?_
            refine lv_aload_n hx hb dX12_carryAll_245 rfl (lv_at hl 1 rfl) ?_
            refine va_get (D := G) (ci := 11) (v := .ref (am 8)) (C := RX12) (T := TX12) (N := 52) hx hb hts in_X12 hown hK hP 0 (aM_0 _ _ _ _ _) rfl 10 (by decide) (hts _ q1275) (fun _ h9 => h9) rfl dX12_carryAll_246 ?_
            refine lv_iload_n hx hb dX12_carryAll_249 rfl (lv_at hl 0 rfl) ?_
            refine li_iald (g := b10) hx hb hK hP 8 0 (aM_8 _ _ _ _ _) rfl (by omega) (by omega) (by decide) dX12_carryAll_250 ?_
            refine kM (va_runV (As := [.int (ii (b10 l1))]) (rest := [.int (ii l1), .ref (am 8)]) ⟨hx, hb, hml, hown, hts⟩ ((m_carryR l G am ty (up (up (up (up (up (up (up (up (up (up (up (up (up (up τ 0 (sc ((τ 43) 0))) 5 (sc ((τ 43) (0 + 1)))) 7 (sc ((τ 43) ((0 + 1) + 1)))) 11 (sc ((τ 43) (((0 + 1) + 1) + 1)))) 12 (sc ((τ 43) ((((0 + 1) + 1) + 1) + 1)))) 13 (sc ((τ 43) (((((0 + 1) + 1) + 1) + 1) + 1)))) 1 b1) 2 b2) 3 b3) 4 b4) 6 b6) 9 b9) 10 b10) 8 (ug b8 l1 ((τ 43) at_))) (up ρ 44 (sc (at_ + 1))) cs (b10 l1) (show 0 ≤ (at_ + 1) ∧ (at_ + 1) < 50 from ⟨by omega, by omega⟩) (show (ρ 45 0) = 0 from h45)) H.size) (cwV 1 hts (lw_V q1695 q1697 qs73 q87 q1698) rfl rfl rfl (by decide +kernel) ⟨Nat.le_of_ble_eq_true rfl, Nat.le_of_ble_eq_true rfl⟩) (pvM (r := (RX12, TX12, 52)) hK hP hD hX 0 (aM_0 _ _ _ _ _) rfl) rfl rfl hl.1 rfl (lv_room (Nat.le_of_ble_eq_true rfl)) dX12_carryAll_251 ⟨Nat.le_of_ble_eq_true rfl, Nat.le_of_ble_eq_true rfl⟩) hD hS hA (fun v ws1 H locs hv hP hD hS => ?_)
            obtain ⟨rfl, rfl⟩ := hv
            have hP : va_P G gcl (wM am ty (up (up (up (up (up (up (up (up (up (up (up (up (up (up τ 0 (sc ((τ 43) 0))) 5 (sc ((τ 43) (0 + 1)))) 7 (sc ((τ 43) ((0 + 1) + 1)))) 11 (sc ((τ 43) (((0 + 1) + 1) + 1)))) 12 (sc ((τ 43) ((((0 + 1) + 1) + 1) + 1)))) 13 (sc ((τ 43) (((((0 + 1) + 1) + 1) + 1) + 1)))) 1 b1) 2 b2) 3 b3) 4 b4) 6 b6) 9 b9) 10 b10) 8 (ug b8 l1 ((τ 43) at_))) (up ρ 44 (sc ((at_ + 1) + 1))) ++ cs) H := hP
            have hD : va_D A (wM am ty (up (up (up (up (up (up (up (up (up (up (up (up (up (up τ 0 (sc ((τ 43) 0))) 5 (sc ((τ 43) (0 + 1)))) 7 (sc ((τ 43) ((0 + 1) + 1)))) 11 (sc ((τ 43) (((0 + 1) + 1) + 1)))) 12 (sc ((τ 43) ((((0 + 1) + 1) + 1) + 1)))) 13 (sc ((τ 43) (((((0 + 1) + 1) + 1) + 1) + 1)))) 1 b1) 2 b2) 3 b3) 4 b4) 6 b6) 9 b9) 10 b10) 8 (ug b8 l1 ((τ 43) at_))) (up ρ 44 (sc ((at_ + 1) + 1))) ++ cs) := hD
            refine li_top (b := ((τ 43) (at_ + 1))) rfl ?_
            refine li_iast (g := b10) (W2 := wM am ty (up (up (up (up (up (up (up (up (up (up (up (up (up (up τ 0 (sc ((τ 43) 0))) 5 (sc ((τ 43) (0 + 1)))) 7 (sc ((τ 43) ((0 + 1) + 1)))) 11 (sc ((τ 43) (((0 + 1) + 1) + 1)))) 12 (sc ((τ 43) ((((0 + 1) + 1) + 1) + 1)))) 13 (sc ((τ 43) (((((0 + 1) + 1) + 1) + 1) + 1)))) 1 b1) 2 b2) 3 b3) 4 b4) 6 b6) 9 b9) 8 (ug b8 l1 ((τ 43) at_))) 10 (ug b10 l1 ((τ 43) (at_ + 1)))) (up ρ 44 (sc ((at_ + 1) + 1))) ++ cs) hx hb hK hP hD hS 8 0 (aM_8 _ _ _ _ _) rfl (by omega) (by omega) (by decide) rfl dX12_carryAll_254 (fun H locs hP hD hS => ?_)
            refine li_iinc (a := l1) (lv' := [(1, .int (ii (l1 + 1))), (0, .ref (am 0))]) hx hb dX12_carryAll_255 hl (k := 0) rfl (by decide) rfl (fun ls hl => ?_)
            refine lv_goto (tgt := 218) hx hb dX12_carryAll_258 (by decide) ?_
            exact ih (l1 + 1) (ug b8 l1 ((τ 43) at_)) (ug b10 l1 ((τ 43) (at_ + 1))) ((at_ + 1) + 1) (by omega) (by omega) (by omega) (res2_s hG3 hat hl0) (by omega) H locs hP hD hS ls (lv_sub hl [0, 1] rfl)
      exact L218 _ 0 (τ 8) (τ 10) at_ (by omega) (by omega) (by omega) (fun i a b => by omega) (Nat.lt_succ_self _) H locs hP hD hS ls (lv_sub hl [0, 1] rfl)
    have L173 : ∀ (n : Nat) (l1 : Int) (b6 : Int → Int) (b9 : Int → Int) (at_ : Int) (_ : 0 ≤ l1) (_ : l1 ≤ 3) (_ : at_ = 26 + 2 * l1) (_ : res2 (τ 43) 26 b6 b9 l1) (_ : (3 - l1).toNat < n) (H : Heap) (locs : List Loc) (_ : va_P G gcl (wM am ty (up (up (up (up (up (up (up (up (up (up (up (up τ 0 (sc ((τ 43) 0))) 5 (sc ((τ 43) (0 + 1)))) 7 (sc ((τ 43) ((0 + 1) + 1)))) 11 (sc ((τ 43) (((0 + 1) + 1) + 1)))) 12 (sc ((τ 43) ((((0 + 1) + 1) + 1) + 1)))) 13 (sc ((τ 43) (((((0 + 1) + 1) + 1) + 1) + 1)))) 1 b1) 2 b2) 3 b3) 4 b4) 6 b6) 9 b9) (up ρ 44 (sc (at_))) ++ cs) H) (_ : va_D A (wM am ty (up (up (up (up (up (up (up (up (up (up (up (up τ 0 (sc ((τ 43) 0))) 5 (sc ((τ 43) (0 + 1)))) 7 (sc ((τ 43) ((0 + 1) + 1)))) 11 (sc ((τ 43) (((0 + 1) + 1) + 1)))) 12 (sc ((τ 43) ((((0 + 1) + 1) + 1) + 1)))) 13 (sc ((τ 43) (((((0 + 1) + 1) + 1) + 1) + 1)))) 1 b1) 2 b2) 3 b3) 4 b4) 6 b6) 9 b9) (up ρ 44 (sc (at_))) ++ cs)) (_ : va_S A s.heap H locs) (ls : Array Slot), lv_has ls 2 [(1, .int (ii l1)), (0, .ref (am 0))] → W p l e (rm4 1 0 0 21) s m args below meth c H locs 0 0 Q (F0 m 173 ls []) := by
      intro n
      induction n with
      | zero =>
        intro l1 b6 b9 at_ hl0 hl5 hat hG2 hm
        exact absurd hm (Nat.not_lt_zero _)
      | succ n ih =>
        intro l1 b6 b9 at_ hl0 hl5 hat hG2 hm H locs hP hD hS ls hl
        refine lv_iload_n hx hb dX12_carryAll_173 rfl (lv_at hl 0 rfl) ?_
        refine li_iconst hx hb dX12_carryAll_174 ?_
        refine li_icmp_ge (tgt := 216) hx hb ⟨by omega, by omega⟩ ⟨by decide, by decide⟩ dX12_carryAll_175 (by decide) (fun c175 => ?_) (fun c175 => ?_)
        · exact X173 l1 b6 b9 at_ (by omega) (by rw [show (3 : Int) = l1 by omega]; exact hG2) H locs hP hD hS ls (lv_sub hl [1] rfl)
        · refine lv_aload_n hx hb dX12_carryAll_178 rfl (lv_at hl 1 rfl) ?_
          refine va_get (D := G) (ci := 11) (v := .ref (am 5)) (C := RX12) (T := TX12) (N := 52) hx hb hts in_X12 hown hK hP 0 (aM_0 _ _ _ _ _) rfl 6 (by decide) (hts _ q1271) (fun _ h9 => h9) rfl dX12_carryAll_179 ?_
          refine lv_iload_n hx hb dX12_carryAll_182 rfl (lv_at hl 0 rfl) ?_
          refine lv_aload_n hx hb dX12_carryAll_183 rfl (lv_at hl 1 rfl) ?_
          refine lv_aload_n hx hb dX12_carryAll_184 rfl (lv_at hl 1 rfl) ?_
          refine va_get (D := G) (ci := 11) (v := .ref (am 5)) (C := RX12) (T := TX12) (N := 52) hx hb hts in_X12 hown hK hP 0 (aM_0 _ _ _ _ _) rfl 6 (by decide) (hts _ q1271) (fun _ h9 => h9) rfl dX12_carryAll_185 ?_
          refine lv_iload_n hx hb dX12_carryAll_188 rfl (lv_at hl 0 rfl) ?_
          refine li_iald (g := b6) hx hb hK hP 5 0 (aM_5 _ _ _ _ _) rfl (by omega) (by omega) (by decide) dX12_carryAll_189 ?_
          refine kM (va_runV (As := [.int (ii (b6 l1))]) (rest := [.int (ii l1), .ref (am 5)]) ⟨hx, hb, hml, hown, hts⟩ ((m_carryR l G am ty (up (up (up (up (up (up (up (up (up (up (up (up τ 0 (sc ((τ 43) 0))) 5 (sc ((τ 43) (0 + 1)))) 7 (sc ((τ 43) ((0 + 1) + 1)))) 11 (sc ((τ 43) (((0 + 1) + 1) + 1)))) 12 (sc ((τ 43) ((((0 + 1) + 1) + 1) + 1)))) 13 (sc ((τ 43) (((((0 + 1) + 1) + 1) + 1) + 1)))) 1 b1) 2 b2) 3 b3) 4 b4) 6 b6) 9 b9) (up ρ 44 (sc (at_))) cs (b6 l1) (show 0 ≤ at_ ∧ at_ < 50 from ⟨by omega, by omega⟩) (show (ρ 45 0) = 0 from h45)) H.size) (cwV 1 hts (lw_V q1695 q1697 qs73 q87 q1698) rfl rfl rfl (by decide +kernel) ⟨Nat.le_of_ble_eq_true rfl, Nat.le_of_ble_eq_true rfl⟩) (pvM (r := (RX12, TX12, 52)) hK hP hD hX 0 (aM_0 _ _ _ _ _) rfl) rfl rfl hl.1 rfl (lv_room (Nat.le_of_ble_eq_true rfl)) dX12_carryAll_190 ⟨Nat.le_of_ble_eq_true rfl, Nat.le_of_ble_eq_true rfl⟩) hD hS hA (fun v ws1 H locs hv hP hD hS => ?_)
          obtain ⟨rfl, rfl⟩ := hv
          have hP : va_P G gcl (wM am ty (up (up (up (up (up (up (up (up (up (up (up (up τ 0 (sc ((τ 43) 0))) 5 (sc ((τ 43) (0 + 1)))) 7 (sc ((τ 43) ((0 + 1) + 1)))) 11 (sc ((τ 43) (((0 + 1) + 1) + 1)))) 12 (sc ((τ 43) ((((0 + 1) + 1) + 1) + 1)))) 13 (sc ((τ 43) (((((0 + 1) + 1) + 1) + 1) + 1)))) 1 b1) 2 b2) 3 b3) 4 b4) 6 b6) 9 b9) (up ρ 44 (sc (at_ + 1))) ++ cs) H := hP
          have hD : va_D A (wM am ty (up (up (up (up (up (up (up (up (up (up (up (up τ 0 (sc ((τ 43) 0))) 5 (sc ((τ 43) (0 + 1)))) 7 (sc ((τ 43) ((0 + 1) + 1)))) 11 (sc ((τ 43) (((0 + 1) + 1) + 1)))) 12 (sc ((τ 43) ((((0 + 1) + 1) + 1) + 1)))) 13 (sc ((τ 43) (((((0 + 1) + 1) + 1) + 1) + 1)))) 1 b1) 2 b2) 3 b3) 4 b4) 6 b6) 9 b9) (up ρ 44 (sc (at_ + 1))) ++ cs) := hD
          refine li_top (b := ((τ 43) at_)) rfl ?_
          refine li_iast (g := b6) (W2 := wM am ty (up (up (up (up (up (up (up (up (up (up (up (up τ 0 (sc ((τ 43) 0))) 5 (sc ((τ 43) (0 + 1)))) 7 (sc ((τ 43) ((0 + 1) + 1)))) 11 (sc ((τ 43) (((0 + 1) + 1) + 1)))) 12 (sc ((τ 43) ((((0 + 1) + 1) + 1) + 1)))) 13 (sc ((τ 43) (((((0 + 1) + 1) + 1) + 1) + 1)))) 1 b1) 2 b2) 3 b3) 4 b4) 9 b9) 6 (ug b6 l1 ((τ 43) at_))) (up ρ 44 (sc (at_ + 1))) ++ cs) hx hb hK hP hD hS 5 0 (aM_5 _ _ _ _ _) rfl (by omega) (by omega) (by decide) rfl dX12_carryAll_193 (fun H locs hP hD hS => ?_)
          refine lv_aload_n hx hb dX12_carryAll_194 rfl (lv_at hl 1 rfl) ?_
          refine va_get (D := G) (ci := 11) (v := .ref (am 7)) (C := RX12) (T := TX12) (N := 52) hx hb hts in_X12 hown hK hP 0 (aM_0 _ _ _ _ _) rfl 9 (by decide) (hts _ q1274) (fun _ h9 => h9) rfl dX12_carryAll_195 ?_
          refine lv_iload_n hx hb dX12_carryAll_198 rfl (lv_at hl 0 rfl) ?_
          refine lv_aload_n hx hb dX12_carryAll_199 rfl (lv_at hl 1 rfl) ?_
          refine lv_aload_n hx hb dX12_carryAll_200 rfl (lv_at hl 1 rfl) ?_
          refine va_get (D := G) (ci := 11) (v := .ref (am 7)) (C := RX12) (T := TX12) (N := 52) hx hb hts in_X12 hown hK hP 0 (aM_0 _ _ _ _ _) rfl 9 (by decide) (hts _ q1274) (fun _ h9 => h9) rfl dX12_carryAll_201 ?_
          refine lv_iload_n hx hb dX12_carryAll_204 rfl (lv_at hl 0 rfl) ?_
          refine li_iald (g := b9) hx hb hK hP 7 0 (aM_7 _ _ _ _ _) rfl (by omega) (by omega) (by decide) dX12_carryAll_205 ?_
          refine kM (va_runV (As := [.int (ii (b9 l1))]) (rest := [.int (ii l1), .ref (am 7)]) ⟨hx, hb, hml, hown, hts⟩ ((m_carryR l G am ty (up (up (up (up (up (up (up (up (up (up (up (up τ 0 (sc ((τ 43) 0))) 5 (sc ((τ 43) (0 + 1)))) 7 (sc ((τ 43) ((0 + 1) + 1)))) 11 (sc ((τ 43) (((0 + 1) + 1) + 1)))) 12 (sc ((τ 43) ((((0 + 1) + 1) + 1) + 1)))) 13 (sc ((τ 43) (((((0 + 1) + 1) + 1) + 1) + 1)))) 1 b1) 2 b2) 3 b3) 4 b4) 9 b9) 6 (ug b6 l1 ((τ 43) at_))) (up ρ 44 (sc (at_ + 1))) cs (b9 l1) (show 0 ≤ (at_ + 1) ∧ (at_ + 1) < 50 from ⟨by omega, by omega⟩) (show (ρ 45 0) = 0 from h45)) H.size) (cwV 1 hts (lw_V q1695 q1697 qs73 q87 q1698) rfl rfl rfl (by decide +kernel) ⟨Nat.le_of_ble_eq_true rfl, Nat.le_of_ble_eq_true rfl⟩) (pvM (r := (RX12, TX12, 52)) hK hP hD hX 0 (aM_0 _ _ _ _ _) rfl) rfl rfl hl.1 rfl (lv_room (Nat.le_of_ble_eq_true rfl)) dX12_carryAll_206 ⟨Nat.le_of_ble_eq_true rfl, Nat.le_of_ble_eq_true rfl⟩) hD hS hA (fun v ws1 H locs hv hP hD hS => ?_)
          obtain ⟨rfl, rfl⟩ := hv
          have hP : va_P G gcl (wM am ty (up (up (up (up (up (up (up (up (up (up (up (up τ 0 (sc ((τ 43) 0))) 5 (sc ((τ 43) (0 + 1)))) 7 (sc ((τ 43) ((0 + 1) + 1)))) 11 (sc ((τ 43) (((0 + 1) + 1) + 1)))) 12 (sc ((τ 43) ((((0 + 1) + 1) + 1) + 1)))) 13 (sc ((τ 43) (((((0 + 1) + 1) + 1) + 1) + 1)))) 1 b1) 2 b2) 3 b3) 4 b4) 9 b9) 6 (ug b6 l1 ((τ 43) at_))) (up ρ 44 (sc ((at_ + 1) + 1))) ++ cs) H := hP
          have hD : va_D A (wM am ty (up (up (up (up (up (up (up (up (up (up (up (up τ 0 (sc ((τ 43) 0))) 5 (sc ((τ 43) (0 + 1)))) 7 (sc ((τ 43) ((0 + 1) + 1)))) 11 (sc ((τ 43) (((0 + 1) + 1) + 1)))) 12 (sc ((τ 43) ((((0 + 1) + 1) + 1) + 1)))) 13 (sc ((τ 43) (((((0 + 1) + 1) + 1) + 1) + 1)))) 1 b1) 2 b2) 3 b3) 4 b4) 9 b9) 6 (ug b6 l1 ((τ 43) at_))) (up ρ 44 (sc ((at_ + 1) + 1))) ++ cs) := hD
          refine li_top (b := ((τ 43) (at_ + 1))) rfl ?_
          refine li_iast (g := b9) (W2 := wM am ty (up (up (up (up (up (up (up (up (up (up (up (up τ 0 (sc ((τ 43) 0))) 5 (sc ((τ 43) (0 + 1)))) 7 (sc ((τ 43) ((0 + 1) + 1)))) 11 (sc ((τ 43) (((0 + 1) + 1) + 1)))) 12 (sc ((τ 43) ((((0 + 1) + 1) + 1) + 1)))) 13 (sc ((τ 43) (((((0 + 1) + 1) + 1) + 1) + 1)))) 1 b1) 2 b2) 3 b3) 4 b4) 6 (ug b6 l1 ((τ 43) at_))) 9 (ug b9 l1 ((τ 43) (at_ + 1)))) (up ρ 44 (sc ((at_ + 1) + 1))) ++ cs) hx hb hK hP hD hS 7 0 (aM_7 _ _ _ _ _) rfl (by omega) (by omega) (by decide) rfl dX12_carryAll_209 (fun H locs hP hD hS => ?_)
          refine li_iinc (a := l1) (lv' := [(1, .int (ii (l1 + 1))), (0, .ref (am 0))]) hx hb dX12_carryAll_210 hl (k := 0) rfl (by decide) rfl (fun ls hl => ?_)
          refine lv_goto (tgt := 173) hx hb dX12_carryAll_213 (by decide) ?_
          exact ih (l1 + 1) (ug b6 l1 ((τ 43) at_)) (ug b9 l1 ((τ 43) (at_ + 1))) ((at_ + 1) + 1) (by omega) (by omega) (by omega) (res2_s hG2 hat hl0) (by omega) H locs hP hD hS ls (lv_sub hl [0, 1] rfl)
    exact L173 _ 0 (τ 6) (τ 9) at_ (by omega) (by omega) (by omega) (fun i a b => by omega) (Nat.lt_succ_self _) H locs hP hD hS ls (lv_sub hl [0, 1] rfl)
  have L79 : ∀ (n : Nat) (l1 : Int) (b1 : Int → Int) (b2 : Int → Int) (b3 : Int → Int) (b4 : Int → Int) (at_ : Int) (_ : 0 ≤ l1) (_ : l1 ≤ 5) (_ : at_ = 6 + 4 * l1) (_ : ∀ i, b4 i = 0 ∨ b4 i = 1) (_ : resL (τ 43) b1 b2 b3 b4 l1) (_ : (5 - l1).toNat < n) (H : Heap) (locs : List Loc) (_ : va_P G gcl (wM am ty (up (up (up (up (up (up (up (up (up (up τ 0 (sc ((τ 43) 0))) 5 (sc ((τ 43) (0 + 1)))) 7 (sc ((τ 43) ((0 + 1) + 1)))) 11 (sc ((τ 43) (((0 + 1) + 1) + 1)))) 12 (sc ((τ 43) ((((0 + 1) + 1) + 1) + 1)))) 13 (sc ((τ 43) (((((0 + 1) + 1) + 1) + 1) + 1)))) 1 b1) 2 b2) 3 b3) 4 b4) (up ρ 44 (sc (at_))) ++ cs) H) (_ : va_D A (wM am ty (up (up (up (up (up (up (up (up (up (up τ 0 (sc ((τ 43) 0))) 5 (sc ((τ 43) (0 + 1)))) 7 (sc ((τ 43) ((0 + 1) + 1)))) 11 (sc ((τ 43) (((0 + 1) + 1) + 1)))) 12 (sc ((τ 43) ((((0 + 1) + 1) + 1) + 1)))) 13 (sc ((τ 43) (((((0 + 1) + 1) + 1) + 1) + 1)))) 1 b1) 2 b2) 3 b3) 4 b4) (up ρ 44 (sc (at_))) ++ cs)) (_ : va_S A s.heap H locs) (ls : Array Slot), lv_has ls 2 [(1, .int (ii l1)), (0, .ref (am 0))] → W p l e (rm4 1 0 0 21) s m args below meth c H locs 0 0 Q (F0 m 79 ls []) := by
    intro n
    induction n with
    | zero =>
      intro l1 b1 b2 b3 b4 at_ hl0 hl5 hat hz4 hG hm
      exact absurd hm (Nat.not_lt_zero _)
    | succ n ih =>
      intro l1 b1 b2 b3 b4 at_ hl0 hl5 hat hz4 hG hm H locs hP hD hS ls hl
      have hz9e : at_ + 1 + 1 + 1 = 9 + 4 * l1 := by omega
      refine lv_iload_n hx hb dX12_carryAll_79 rfl (lv_at hl 0 rfl) ?_
      refine li_iconst hx hb dX12_carryAll_80 ?_
      refine li_icmp_ge (tgt := 171) hx hb ⟨by omega, by omega⟩ ⟨by decide, by decide⟩ dX12_carryAll_81 (by decide) (fun c81 => ?_) (fun c81 => ?_)
      · exact X79 l1 b1 b2 b3 b4 at_ (by omega) (hz4) (by rw [show (5 : Int) = l1 by omega]; exact hG) H locs hP hD hS ls (lv_sub hl [1] rfl)
      · refine lv_aload_n hx hb dX12_carryAll_84 rfl (lv_at hl 1 rfl) ?_
        refine va_get (D := G) (ci := 11) (v := .ref (am 1)) (C := RX12) (T := TX12) (N := 52) hx hb hts in_X12 hown hK hP 0 (aM_0 _ _ _ _ _) rfl 1 (by decide) (hts _ q1266) (fun _ h9 => h9) rfl dX12_carryAll_85 ?_
        refine lv_iload_n hx hb dX12_carryAll_88 rfl (lv_at hl 0 rfl) ?_
        refine lv_aload_n hx hb dX12_carryAll_89 rfl (lv_at hl 1 rfl) ?_
        refine lv_aload_n hx hb dX12_carryAll_90 rfl (lv_at hl 1 rfl) ?_
        refine va_get (D := G) (ci := 11) (v := .ref (am 1)) (C := RX12) (T := TX12) (N := 52) hx hb hts in_X12 hown hK hP 0 (aM_0 _ _ _ _ _) rfl 1 (by decide) (hts _ q1266) (fun _ h9 => h9) rfl dX12_carryAll_91 ?_
        refine lv_iload_n hx hb dX12_carryAll_94 rfl (lv_at hl 0 rfl) ?_
        refine li_iald (g := b1) hx hb hK hP 1 0 (aM_1 _ _ _ _ _) rfl (by omega) (by omega) (by decide) dX12_carryAll_95 ?_
        refine kM (va_runV (As := [.int (ii (b1 l1))]) (rest := [.int (ii l1), .ref (am 1)]) ⟨hx, hb, hml, hown, hts⟩ ((m_carryR l G am ty (up (up (up (up (up (up (up (up (up (up τ 0 (sc ((τ 43) 0))) 5 (sc ((τ 43) (0 + 1)))) 7 (sc ((τ 43) ((0 + 1) + 1)))) 11 (sc ((τ 43) (((0 + 1) + 1) + 1)))) 12 (sc ((τ 43) ((((0 + 1) + 1) + 1) + 1)))) 13 (sc ((τ 43) (((((0 + 1) + 1) + 1) + 1) + 1)))) 1 b1) 2 b2) 3 b3) 4 b4) (up ρ 44 (sc (at_))) cs (b1 l1) (show 0 ≤ at_ ∧ at_ < 50 from ⟨by omega, by omega⟩) (show (ρ 45 0) = 0 from h45)) H.size) (cwV 1 hts (lw_V q1695 q1697 qs73 q87 q1698) rfl rfl rfl (by decide +kernel) ⟨Nat.le_of_ble_eq_true rfl, Nat.le_of_ble_eq_true rfl⟩) (pvM (r := (RX12, TX12, 52)) hK hP hD hX 0 (aM_0 _ _ _ _ _) rfl) rfl rfl hl.1 rfl (lv_room (Nat.le_of_ble_eq_true rfl)) dX12_carryAll_96 ⟨Nat.le_of_ble_eq_true rfl, Nat.le_of_ble_eq_true rfl⟩) hD hS hA (fun v ws1 H locs hv hP hD hS => ?_)
        obtain ⟨rfl, rfl⟩ := hv
        have hP : va_P G gcl (wM am ty (up (up (up (up (up (up (up (up (up (up τ 0 (sc ((τ 43) 0))) 5 (sc ((τ 43) (0 + 1)))) 7 (sc ((τ 43) ((0 + 1) + 1)))) 11 (sc ((τ 43) (((0 + 1) + 1) + 1)))) 12 (sc ((τ 43) ((((0 + 1) + 1) + 1) + 1)))) 13 (sc ((τ 43) (((((0 + 1) + 1) + 1) + 1) + 1)))) 1 b1) 2 b2) 3 b3) 4 b4) (up ρ 44 (sc (at_ + 1))) ++ cs) H := hP
        have hD : va_D A (wM am ty (up (up (up (up (up (up (up (up (up (up τ 0 (sc ((τ 43) 0))) 5 (sc ((τ 43) (0 + 1)))) 7 (sc ((τ 43) ((0 + 1) + 1)))) 11 (sc ((τ 43) (((0 + 1) + 1) + 1)))) 12 (sc ((τ 43) ((((0 + 1) + 1) + 1) + 1)))) 13 (sc ((τ 43) (((((0 + 1) + 1) + 1) + 1) + 1)))) 1 b1) 2 b2) 3 b3) 4 b4) (up ρ 44 (sc (at_ + 1))) ++ cs) := hD
        refine li_top (b := ((τ 43) at_)) rfl ?_
        refine li_iast (g := b1) (W2 := wM am ty (up (up (up (up (up (up (up (up (up (up τ 0 (sc ((τ 43) 0))) 5 (sc ((τ 43) (0 + 1)))) 7 (sc ((τ 43) ((0 + 1) + 1)))) 11 (sc ((τ 43) (((0 + 1) + 1) + 1)))) 12 (sc ((τ 43) ((((0 + 1) + 1) + 1) + 1)))) 13 (sc ((τ 43) (((((0 + 1) + 1) + 1) + 1) + 1)))) 2 b2) 3 b3) 4 b4) 1 (ug b1 l1 ((τ 43) at_))) (up ρ 44 (sc (at_ + 1))) ++ cs) hx hb hK hP hD hS 1 0 (aM_1 _ _ _ _ _) rfl (by omega) (by omega) (by decide) rfl dX12_carryAll_99 (fun H locs hP hD hS => ?_)
        refine lv_aload_n hx hb dX12_carryAll_100 rfl (lv_at hl 1 rfl) ?_
        refine va_get (D := G) (ci := 11) (v := .ref (am 2)) (C := RX12) (T := TX12) (N := 52) hx hb hts in_X12 hown hK hP 0 (aM_0 _ _ _ _ _) rfl 2 (by decide) (hts _ q1267) (fun _ h9 => h9) rfl dX12_carryAll_101 ?_
        refine lv_iload_n hx hb dX12_carryAll_104 rfl (lv_at hl 0 rfl) ?_
        refine lv_aload_n hx hb dX12_carryAll_105 rfl (lv_at hl 1 rfl) ?_
        refine lv_aload_n hx hb dX12_carryAll_106 rfl (lv_at hl 1 rfl) ?_
        refine va_get (D := G) (ci := 11) (v := .ref (am 2)) (C := RX12) (T := TX12) (N := 52) hx hb hts in_X12 hown hK hP 0 (aM_0 _ _ _ _ _) rfl 2 (by decide) (hts _ q1267) (fun _ h9 => h9) rfl dX12_carryAll_107 ?_
        refine lv_iload_n hx hb dX12_carryAll_110 rfl (lv_at hl 0 rfl) ?_
        refine li_iald (g := b2) hx hb hK hP 2 0 (aM_2 _ _ _ _ _) rfl (by omega) (by omega) (by decide) dX12_carryAll_111 ?_
        refine kM (va_runV (As := [.int (ii (b2 l1))]) (rest := [.int (ii l1), .ref (am 2)]) ⟨hx, hb, hml, hown, hts⟩ ((m_carryR l G am ty (up (up (up (up (up (up (up (up (up (up τ 0 (sc ((τ 43) 0))) 5 (sc ((τ 43) (0 + 1)))) 7 (sc ((τ 43) ((0 + 1) + 1)))) 11 (sc ((τ 43) (((0 + 1) + 1) + 1)))) 12 (sc ((τ 43) ((((0 + 1) + 1) + 1) + 1)))) 13 (sc ((τ 43) (((((0 + 1) + 1) + 1) + 1) + 1)))) 2 b2) 3 b3) 4 b4) 1 (ug b1 l1 ((τ 43) at_))) (up ρ 44 (sc (at_ + 1))) cs (b2 l1) (show 0 ≤ (at_ + 1) ∧ (at_ + 1) < 50 from ⟨by omega, by omega⟩) (show (ρ 45 0) = 0 from h45)) H.size) (cwV 1 hts (lw_V q1695 q1697 qs73 q87 q1698) rfl rfl rfl (by decide +kernel) ⟨Nat.le_of_ble_eq_true rfl, Nat.le_of_ble_eq_true rfl⟩) (pvM (r := (RX12, TX12, 52)) hK hP hD hX 0 (aM_0 _ _ _ _ _) rfl) rfl rfl hl.1 rfl (lv_room (Nat.le_of_ble_eq_true rfl)) dX12_carryAll_112 ⟨Nat.le_of_ble_eq_true rfl, Nat.le_of_ble_eq_true rfl⟩) hD hS hA (fun v ws1 H locs hv hP hD hS => ?_)
        obtain ⟨rfl, rfl⟩ := hv
        have hP : va_P G gcl (wM am ty (up (up (up (up (up (up (up (up (up (up τ 0 (sc ((τ 43) 0))) 5 (sc ((τ 43) (0 + 1)))) 7 (sc ((τ 43) ((0 + 1) + 1)))) 11 (sc ((τ 43) (((0 + 1) + 1) + 1)))) 12 (sc ((τ 43) ((((0 + 1) + 1) + 1) + 1)))) 13 (sc ((τ 43) (((((0 + 1) + 1) + 1) + 1) + 1)))) 2 b2) 3 b3) 4 b4) 1 (ug b1 l1 ((τ 43) at_))) (up ρ 44 (sc ((at_ + 1) + 1))) ++ cs) H := hP
        have hD : va_D A (wM am ty (up (up (up (up (up (up (up (up (up (up τ 0 (sc ((τ 43) 0))) 5 (sc ((τ 43) (0 + 1)))) 7 (sc ((τ 43) ((0 + 1) + 1)))) 11 (sc ((τ 43) (((0 + 1) + 1) + 1)))) 12 (sc ((τ 43) ((((0 + 1) + 1) + 1) + 1)))) 13 (sc ((τ 43) (((((0 + 1) + 1) + 1) + 1) + 1)))) 2 b2) 3 b3) 4 b4) 1 (ug b1 l1 ((τ 43) at_))) (up ρ 44 (sc ((at_ + 1) + 1))) ++ cs) := hD
        refine li_top (b := ((τ 43) (at_ + 1))) rfl ?_
        refine li_iast (g := b2) (W2 := wM am ty (up (up (up (up (up (up (up (up (up (up τ 0 (sc ((τ 43) 0))) 5 (sc ((τ 43) (0 + 1)))) 7 (sc ((τ 43) ((0 + 1) + 1)))) 11 (sc ((τ 43) (((0 + 1) + 1) + 1)))) 12 (sc ((τ 43) ((((0 + 1) + 1) + 1) + 1)))) 13 (sc ((τ 43) (((((0 + 1) + 1) + 1) + 1) + 1)))) 3 b3) 4 b4) 1 (ug b1 l1 ((τ 43) at_))) 2 (ug b2 l1 ((τ 43) (at_ + 1)))) (up ρ 44 (sc ((at_ + 1) + 1))) ++ cs) hx hb hK hP hD hS 2 0 (aM_2 _ _ _ _ _) rfl (by omega) (by omega) (by decide) rfl dX12_carryAll_115 (fun H locs hP hD hS => ?_)
        refine lv_aload_n hx hb dX12_carryAll_116 rfl (lv_at hl 1 rfl) ?_
        refine va_get (D := G) (ci := 11) (v := .ref (am 3)) (C := RX12) (T := TX12) (N := 52) hx hb hts in_X12 hown hK hP 0 (aM_0 _ _ _ _ _) rfl 3 (by decide) (hts _ q1268) (fun _ h9 => h9) rfl dX12_carryAll_117 ?_
        refine lv_iload_n hx hb dX12_carryAll_120 rfl (lv_at hl 0 rfl) ?_
        refine lv_aload_n hx hb dX12_carryAll_121 rfl (lv_at hl 1 rfl) ?_
        refine lv_aload_n hx hb dX12_carryAll_122 rfl (lv_at hl 1 rfl) ?_
        refine va_get (D := G) (ci := 11) (v := .ref (am 3)) (C := RX12) (T := TX12) (N := 52) hx hb hts in_X12 hown hK hP 0 (aM_0 _ _ _ _ _) rfl 3 (by decide) (hts _ q1268) (fun _ h9 => h9) rfl dX12_carryAll_123 ?_
        refine lv_iload_n hx hb dX12_carryAll_126 rfl (lv_at hl 0 rfl) ?_
        refine li_iald (g := b3) hx hb hK hP 3 0 (aM_3 _ _ _ _ _) rfl (by omega) (by omega) (by decide) dX12_carryAll_127 ?_
        refine kM (va_runV (As := [.int (ii (b3 l1))]) (rest := [.int (ii l1), .ref (am 3)]) ⟨hx, hb, hml, hown, hts⟩ ((m_carryR l G am ty (up (up (up (up (up (up (up (up (up (up τ 0 (sc ((τ 43) 0))) 5 (sc ((τ 43) (0 + 1)))) 7 (sc ((τ 43) ((0 + 1) + 1)))) 11 (sc ((τ 43) (((0 + 1) + 1) + 1)))) 12 (sc ((τ 43) ((((0 + 1) + 1) + 1) + 1)))) 13 (sc ((τ 43) (((((0 + 1) + 1) + 1) + 1) + 1)))) 3 b3) 4 b4) 1 (ug b1 l1 ((τ 43) at_))) 2 (ug b2 l1 ((τ 43) (at_ + 1)))) (up ρ 44 (sc ((at_ + 1) + 1))) cs (b3 l1) (show 0 ≤ ((at_ + 1) + 1) ∧ ((at_ + 1) + 1) < 50 from ⟨by omega, by omega⟩) (show (ρ 45 0) = 0 from h45)) H.size) (cwV 1 hts (lw_V q1695 q1697 qs73 q87 q1698) rfl rfl rfl (by decide +kernel) ⟨Nat.le_of_ble_eq_true rfl, Nat.le_of_ble_eq_true rfl⟩) (pvM (r := (RX12, TX12, 52)) hK hP hD hX 0 (aM_0 _ _ _ _ _) rfl) rfl rfl hl.1 rfl (lv_room (Nat.le_of_ble_eq_true rfl)) dX12_carryAll_128 ⟨Nat.le_of_ble_eq_true rfl, Nat.le_of_ble_eq_true rfl⟩) hD hS hA (fun v ws1 H locs hv hP hD hS => ?_)
        obtain ⟨rfl, rfl⟩ := hv
        have hP : va_P G gcl (wM am ty (up (up (up (up (up (up (up (up (up (up τ 0 (sc ((τ 43) 0))) 5 (sc ((τ 43) (0 + 1)))) 7 (sc ((τ 43) ((0 + 1) + 1)))) 11 (sc ((τ 43) (((0 + 1) + 1) + 1)))) 12 (sc ((τ 43) ((((0 + 1) + 1) + 1) + 1)))) 13 (sc ((τ 43) (((((0 + 1) + 1) + 1) + 1) + 1)))) 3 b3) 4 b4) 1 (ug b1 l1 ((τ 43) at_))) 2 (ug b2 l1 ((τ 43) (at_ + 1)))) (up ρ 44 (sc (((at_ + 1) + 1) + 1))) ++ cs) H := hP
        have hD : va_D A (wM am ty (up (up (up (up (up (up (up (up (up (up τ 0 (sc ((τ 43) 0))) 5 (sc ((τ 43) (0 + 1)))) 7 (sc ((τ 43) ((0 + 1) + 1)))) 11 (sc ((τ 43) (((0 + 1) + 1) + 1)))) 12 (sc ((τ 43) ((((0 + 1) + 1) + 1) + 1)))) 13 (sc ((τ 43) (((((0 + 1) + 1) + 1) + 1) + 1)))) 3 b3) 4 b4) 1 (ug b1 l1 ((τ 43) at_))) 2 (ug b2 l1 ((τ 43) (at_ + 1)))) (up ρ 44 (sc (((at_ + 1) + 1) + 1))) ++ cs) := hD
        refine li_top (b := ((τ 43) ((at_ + 1) + 1))) rfl ?_
        refine li_iast (g := b3) (W2 := wM am ty (up (up (up (up (up (up (up (up (up (up τ 0 (sc ((τ 43) 0))) 5 (sc ((τ 43) (0 + 1)))) 7 (sc ((τ 43) ((0 + 1) + 1)))) 11 (sc ((τ 43) (((0 + 1) + 1) + 1)))) 12 (sc ((τ 43) ((((0 + 1) + 1) + 1) + 1)))) 13 (sc ((τ 43) (((((0 + 1) + 1) + 1) + 1) + 1)))) 4 b4) 1 (ug b1 l1 ((τ 43) at_))) 2 (ug b2 l1 ((τ 43) (at_ + 1)))) 3 (ug b3 l1 ((τ 43) ((at_ + 1) + 1)))) (up ρ 44 (sc (((at_ + 1) + 1) + 1))) ++ cs) hx hb hK hP hD hS 3 0 (aM_3 _ _ _ _ _) rfl (by omega) (by omega) (by decide) rfl dX12_carryAll_131 (fun H locs hP hD hS => ?_)
        refine lv_aload_n hx hb dX12_carryAll_132 rfl (lv_at hl 1 rfl) ?_
        refine va_get (D := G) (ci := 11) (v := .ref (am 4)) (C := RX12) (T := TX12) (N := 52) hx hb hts in_X12 hown hK hP 0 (aM_0 _ _ _ _ _) rfl 4 (by decide) (hts _ q1269) (fun _ h9 => h9) rfl dX12_carryAll_133 ?_
        refine lv_iload_n hx hb dX12_carryAll_136 rfl (lv_at hl 0 rfl) ?_
        refine lv_aload_n hx hb dX12_carryAll_137 rfl (lv_at hl 1 rfl) ?_
        refine lv_aload_n hx hb dX12_carryAll_138 rfl (lv_at hl 1 rfl) ?_
        refine va_get (D := G) (ci := 11) (v := .ref (am 4)) (C := RX12) (T := TX12) (N := 52) hx hb hts in_X12 hown hK hP 0 (aM_0 _ _ _ _ _) rfl 4 (by decide) (hts _ q1269) (fun _ h9 => h9) rfl dX12_carryAll_139 ?_
        refine lv_iload_n hx hb dX12_carryAll_142 rfl (lv_at hl 0 rfl) ?_
        refine li_zald (g := b4) hx hb hK hP 4 1 (aM_4 _ _ _ _ _) rfl (by omega) (by omega) (by decide) dX12_carryAll_143 ?_
        have hz := hz4 l1
        have J144 : ∀ (y144_0 : Int) (_ : True) (H : Heap) (locs : List Loc) (_ : va_P G gcl (wM am ty (up (up (up (up (up (up (up (up (up (up τ 0 (sc ((τ 43) 0))) 5 (sc ((τ 43) (0 + 1)))) 7 (sc ((τ 43) ((0 + 1) + 1)))) 11 (sc ((τ 43) (((0 + 1) + 1) + 1)))) 12 (sc ((τ 43) ((((0 + 1) + 1) + 1) + 1)))) 13 (sc ((τ 43) (((((0 + 1) + 1) + 1) + 1) + 1)))) 4 b4) 1 (ug b1 l1 ((τ 43) at_))) 2 (ug b2 l1 ((τ 43) (at_ + 1)))) 3 (ug b3 l1 ((τ 43) ((at_ + 1) + 1)))) (up ρ 44 (sc (((at_ + 1) + 1) + 1))) ++ cs) H) (_ : va_D A (wM am ty (up (up (up (up (up (up (up (up (up (up τ 0 (sc ((τ 43) 0))) 5 (sc ((τ 43) (0 + 1)))) 7 (sc ((τ 43) ((0 + 1) + 1)))) 11 (sc ((τ 43) (((0 + 1) + 1) + 1)))) 12 (sc ((τ 43) ((((0 + 1) + 1) + 1) + 1)))) 13 (sc ((τ 43) (((((0 + 1) + 1) + 1) + 1) + 1)))) 4 b4) 1 (ug b1 l1 ((τ 43) at_))) 2 (ug b2 l1 ((τ 43) (at_ + 1)))) 3 (ug b3 l1 ((τ 43) ((at_ + 1) + 1)))) (up ρ 44 (sc (((at_ + 1) + 1) + 1))) ++ cs)) (_ : va_S A s.heap H locs) (ls : Array Slot), lv_has ls 2 [(1, .int (ii l1)), (0, .ref (am 0))] → W p l e (rm4 1 0 0 21) s m args below meth c H locs 0 0 Q (F0 m 152 ls [.int (ii y144_0), .ref (am 0), .int (ii l1), .ref (am 4)]) := by
          intro y144_0 hj144 H locs hP hD hS ls hl
          refine kM (va_runV (As := [.int (ii y144_0)]) (rest := [.int (ii l1), .ref (am 4)]) ⟨hx, hb, hml, hown, hts⟩ ((m_carryR l G am ty (up (up (up (up (up (up (up (up (up (up τ 0 (sc ((τ 43) 0))) 5 (sc ((τ 43) (0 + 1)))) 7 (sc ((τ 43) ((0 + 1) + 1)))) 11 (sc ((τ 43) (((0 + 1) + 1) + 1)))) 12 (sc ((τ 43) ((((0 + 1) + 1) + 1) + 1)))) 13 (sc ((τ 43) (((((0 + 1) + 1) + 1) + 1) + 1)))) 4 b4) 1 (ug b1 l1 ((τ 43) at_))) 2 (ug b2 l1 ((τ 43) (at_ + 1)))) 3 (ug b3 l1 ((τ 43) ((at_ + 1) + 1)))) (up ρ 44 (sc (((at_ + 1) + 1) + 1))) cs y144_0 (show 0 ≤ (((at_ + 1) + 1) + 1) ∧ (((at_ + 1) + 1) + 1) < 50 from ⟨by omega, by omega⟩) (show (ρ 45 0) = 0 from h45)) H.size) (cwV 1 hts (lw_V q1695 q1697 qs73 q87 q1698) rfl rfl rfl (by decide +kernel) ⟨Nat.le_of_ble_eq_true rfl, Nat.le_of_ble_eq_true rfl⟩) (pvM (r := (RX12, TX12, 52)) hK hP hD hX 0 (aM_0 _ _ _ _ _) rfl) rfl rfl hl.1 rfl (lv_room (Nat.le_of_ble_eq_true rfl)) dX12_carryAll_152 ⟨Nat.le_of_ble_eq_true rfl, Nat.le_of_ble_eq_true rfl⟩) hD hS hA (fun v ws1 H locs hv hP hD hS => ?_)
          obtain ⟨rfl, rfl⟩ := hv
          have hP : va_P G gcl (wM am ty (up (up (up (up (up (up (up (up (up (up τ 0 (sc ((τ 43) 0))) 5 (sc ((τ 43) (0 + 1)))) 7 (sc ((τ 43) ((0 + 1) + 1)))) 11 (sc ((τ 43) (((0 + 1) + 1) + 1)))) 12 (sc ((τ 43) ((((0 + 1) + 1) + 1) + 1)))) 13 (sc ((τ 43) (((((0 + 1) + 1) + 1) + 1) + 1)))) 4 b4) 1 (ug b1 l1 ((τ 43) at_))) 2 (ug b2 l1 ((τ 43) (at_ + 1)))) 3 (ug b3 l1 ((τ 43) ((at_ + 1) + 1)))) (up ρ 44 (sc ((((at_ + 1) + 1) + 1) + 1))) ++ cs) H := hP
          have hD : va_D A (wM am ty (up (up (up (up (up (up (up (up (up (up τ 0 (sc ((τ 43) 0))) 5 (sc ((τ 43) (0 + 1)))) 7 (sc ((τ 43) ((0 + 1) + 1)))) 11 (sc ((τ 43) (((0 + 1) + 1) + 1)))) 12 (sc ((τ 43) ((((0 + 1) + 1) + 1) + 1)))) 13 (sc ((τ 43) (((((0 + 1) + 1) + 1) + 1) + 1)))) 4 b4) 1 (ug b1 l1 ((τ 43) at_))) 2 (ug b2 l1 ((τ 43) (at_ + 1)))) 3 (ug b3 l1 ((τ 43) ((at_ + 1) + 1)))) (up ρ 44 (sc ((((at_ + 1) + 1) + 1) + 1))) ++ cs) := hD
          refine li_top (b := ((τ 43) (((at_ + 1) + 1) + 1))) rfl ?_
          refine li_iconst hx hb dX12_carryAll_155 ?_
          have hz9 := hg4 l1 hl0 (by omega)
          have J156 : ∀ (y156_0 : Int) (_ : y156_0 = τ 43 (9 + 4 * l1)) (H : Heap) (locs : List Loc) (_ : va_P G gcl (wM am ty (up (up (up (up (up (up (up (up (up (up τ 0 (sc ((τ 43) 0))) 5 (sc ((τ 43) (0 + 1)))) 7 (sc ((τ 43) ((0 + 1) + 1)))) 11 (sc ((τ 43) (((0 + 1) + 1) + 1)))) 12 (sc ((τ 43) ((((0 + 1) + 1) + 1) + 1)))) 13 (sc ((τ 43) (((((0 + 1) + 1) + 1) + 1) + 1)))) 4 b4) 1 (ug b1 l1 ((τ 43) at_))) 2 (ug b2 l1 ((τ 43) (at_ + 1)))) 3 (ug b3 l1 ((τ 43) ((at_ + 1) + 1)))) (up ρ 44 (sc ((((at_ + 1) + 1) + 1) + 1))) ++ cs) H) (_ : va_D A (wM am ty (up (up (up (up (up (up (up (up (up (up τ 0 (sc ((τ 43) 0))) 5 (sc ((τ 43) (0 + 1)))) 7 (sc ((τ 43) ((0 + 1) + 1)))) 11 (sc ((τ 43) (((0 + 1) + 1) + 1)))) 12 (sc ((τ 43) ((((0 + 1) + 1) + 1) + 1)))) 13 (sc ((τ 43) (((((0 + 1) + 1) + 1) + 1) + 1)))) 4 b4) 1 (ug b1 l1 ((τ 43) at_))) 2 (ug b2 l1 ((τ 43) (at_ + 1)))) 3 (ug b3 l1 ((τ 43) ((at_ + 1) + 1)))) (up ρ 44 (sc ((((at_ + 1) + 1) + 1) + 1))) ++ cs)) (_ : va_S A s.heap H locs) (ls : Array Slot), lv_has ls 2 [(1, .int (ii l1)), (0, .ref (am 0))] → W p l e (rm4 1 0 0 21) s m args below meth c H locs 0 0 Q (F0 m 164 ls [.int (ii y156_0), .int (ii l1), .ref (am 4)]) := by
            intro y156_0 hj156 H locs hP hD hS ls hl
            refine li_zast (g := b4) (W2 := wM am ty (up (up (up (up (up (up (up (up (up (up τ 0 (sc ((τ 43) 0))) 5 (sc ((τ 43) (0 + 1)))) 7 (sc ((τ 43) ((0 + 1) + 1)))) 11 (sc ((τ 43) (((0 + 1) + 1) + 1)))) 12 (sc ((τ 43) ((((0 + 1) + 1) + 1) + 1)))) 13 (sc ((τ 43) (((((0 + 1) + 1) + 1) + 1) + 1)))) 1 (ug b1 l1 ((τ 43) at_))) 2 (ug b2 l1 ((τ 43) (at_ + 1)))) 3 (ug b3 l1 ((τ 43) ((at_ + 1) + 1)))) 4 (ug b4 l1 y156_0)) (up ρ 44 (sc ((((at_ + 1) + 1) + 1) + 1))) ++ cs) hx hb hK hP hD hS 4 1 (aM_4 _ _ _ _ _) rfl (by omega) (by omega) (by decide) (by omega) rfl dX12_carryAll_164 (fun H locs hP hD hS => ?_)
            refine li_iinc (a := l1) (lv' := [(1, .int (ii (l1 + 1))), (0, .ref (am 0))]) hx hb dX12_carryAll_165 hl (k := 0) rfl (by decide) rfl (fun ls hl => ?_)
            refine lv_goto (tgt := 79) hx hb dX12_carryAll_168 (by decide) ?_
            exact ih (l1 + 1) (ug b1 l1 ((τ 43) at_)) (ug b2 l1 ((τ 43) (at_ + 1))) (ug b3 l1 ((τ 43) ((at_ + 1) + 1))) (ug b4 l1 y156_0) ((((at_ + 1) + 1) + 1) + 1) (by omega) (by omega) (by omega) (ug_z4 hz4 (by omega)) (resL_s hG hat hl0 hj156) (by omega) H locs hP hD hS ls (lv_sub hl [0, 1] rfl)
          refine li_icmp_ne (tgt := 163) hx hb ⟨by rw [hz9e]; omega, by rw [hz9e]; omega⟩ ⟨by decide, by decide⟩ dX12_carryAll_156 (by decide) (fun c156 => ?_) (fun c156 => ?_)
          · refine li_iconst hx hb dX12_carryAll_163 ?_
            exact J156 0 (by rw [hz9e] at c156; omega) H locs hP hD hS ls (lv_sub hl [0, 1] rfl)
          · refine li_iconst hx hb dX12_carryAll_159 ?_
            refine lv_goto (tgt := 164) hx hb dX12_carryAll_160 (by decide) ?_
            exact J156 1 (by rw [hz9e] at c156; omega) H locs hP hD hS ls (lv_sub hl [0, 1] rfl)
        refine li_if_eq (tgt := 151) hx hb ⟨by omega, by omega⟩ dX12_carryAll_144 (by decide) (fun c144 => ?_) (fun c144 => ?_)
        · refine li_iconst hx hb dX12_carryAll_151 ?_
          exact J144 0 (trivial) H locs hP hD hS ls (lv_sub hl [0, 1] rfl)
        · refine li_iconst hx hb dX12_carryAll_147 ?_
          refine lv_goto (tgt := 152) hx hb dX12_carryAll_148 (by decide) ?_
          exact J144 1 (trivial) H locs hP hD hS ls (lv_sub hl [0, 1] rfl)
  exact L79 _ 0 (τ 1) (τ 2) (τ 3) (τ 4) ((((((0 + 1) + 1) + 1) + 1) + 1) + 1) (by omega) (by omega) (rfl) (hz4) (fun i a b => by omega) (Nat.lt_succ_self _) H locs hP hD hS ls (lv_sub hl [0, 1] rfl)
set_option maxHeartbeats 4000000 in
theorem m_imageM (l : Launch) (G : va_G) (am : Nat → Nat) (ty : Nat → ClassId) (τ ρ : mem) (cs : va_W)   (hz4 : ∀ i, (τ 4) i = 0 ∨ (τ 4) i = 1) : cM l yX12_image (ws_ yX12_image cX12_image 1 (some .int)) (rm4 2 0 0 42) G ty (wM am ty τ ρ ++ cs) [.ref (am 0)] 0 0 (fun r W' => ∃ (Gi : Int → Int), r = some (.int (ii (τ 0 0))) ∧ W' = wM am ty (up (up τ 42 (sc (1))) 43 Gi) (up (up (up ρ 14 (sc (0))) 45 (sc (1))) 44 (sc (36))) ++ cs ∧ (imgP_all τ Gi)) := by
  refine cM.of (by decide) (Nat.le_of_ble_eq_true rfl) ?_
  intro p e s m args below meth c A Q H locs hQ hx hb hr hml hown hlk hname hts hK hP hD hS hA hX ls hl
  have hl : lv_has ls 1 [(0, .ref (am 0))] := hl
  refine lv_aload_n hx hb dX12_image_0 rfl (lv_at hl 0 rfl) ?_
  refine li_iconst hx hb dX12_image_1 ?_
  refine va_put (D := G) (ci := 11) (v := .int (ii 0)) (ty := .int) (C := RX12) (T := TX12) (N := 52) hx hb hts in_X12 tyX12 tyX12_ok nmX12 hown hK hP hD hS 0 (aM_0 _ _ _ _ _) rfl 14 (by decide) (hts _ q1279) (fun _ h9 => h9) rfl (tyX12_ok 14 (by decide)) rfl rfl (Nat.le_of_ble_eq_true rfl) dX12_image_2 (fun H locs hP hD hS => ?_)
  have hP : va_P G gcl (wM am ty τ (up ρ 14 (sc (0))) ++ cs) H := hP
  have hD : va_D A (wM am ty τ (up ρ 14 (sc (0))) ++ cs) := hD
  refine lv_aload_n hx hb dX12_image_5 rfl (lv_at hl 0 rfl) ?_
  refine li_iconst hx hb dX12_image_6 ?_
  refine va_put (D := G) (ci := 11) (v := .int (ii 1)) (ty := .boolean) (C := RX12) (T := TX12) (N := 52) hx hb hts in_X12 tyX12 tyX12_ok nmX12 hown hK hP hD hS 0 (aM_0 _ _ _ _ _) rfl 42 (by decide) (hts _ q1307) (fun _ h9 => h9) rfl (tyX12_ok 42 (by decide)) (nrw_z (by omega)) (fit_z (by omega)) (Nat.le_of_ble_eq_true rfl) dX12_image_7 (fun H locs hP hD hS => ?_)
  have hP : va_P G gcl (wM am ty (up τ 42 (sc (1))) (up ρ 14 (sc (0))) ++ cs) H := hP
  have hD : va_D A (wM am ty (up τ 42 (sc (1))) (up ρ 14 (sc (0))) ++ cs) := hD
  refine lv_aload_n hx hb dX12_image_10 rfl (lv_at hl 0 rfl) ?_
  refine li_iconst hx hb dX12_image_11 ?_
  refine va_put (D := G) (ci := 11) (v := .int (ii 1)) (ty := .boolean) (C := RX12) (T := TX12) (N := 52) hx hb hts in_X12 tyX12 tyX12_ok nmX12 hown hK hP hD hS 0 (aM_0 _ _ _ _ _) rfl 45 (by decide) (hts _ q1310) (fun _ h9 => h9) rfl (tyX12_ok 45 (by decide)) (nrw_z (by omega)) (fit_z (by omega)) (Nat.le_of_ble_eq_true rfl) dX12_image_12 (fun H locs hP hD hS => ?_)
  have hP : va_P G gcl (wM am ty (up τ 42 (sc (1))) (up (up ρ 14 (sc (0))) 45 (sc (1))) ++ cs) H := hP
  have hD : va_D A (wM am ty (up τ 42 (sc (1))) (up (up ρ 14 (sc (0))) 45 (sc (1))) ++ cs) := hD
  refine lv_aload_n hx hb dX12_image_15 rfl (lv_at hl 0 rfl) ?_
  refine kM (va_runV (As := []) (rest := []) ⟨hx, hb, hml, hown, hts⟩ ((m_carryAllT l G am ty (up τ 42 (sc (1))) (up (up ρ 14 (sc (0))) 45 (sc (1))) cs (show 1 = 1 from rfl) (show ∀ i, (τ 4) i = 0 ∨ (τ 4) i = 1 from hz4)) H.size) (cwV 0 hts (lw_V q1691 q1693 qs72 q87 q1694) rfl rfl rfl (by decide +kernel) ⟨Nat.le_of_ble_eq_true rfl, Nat.le_of_ble_eq_true rfl⟩) (pvM (r := (RX12, TX12, 52)) hK hP hD hX 0 (aM_0 _ _ _ _ _) rfl) rfl rfl hl.1 rfl (lv_room (Nat.le_of_ble_eq_true rfl)) dX12_image_16 ⟨Nat.le_of_ble_eq_true rfl, Nat.le_of_ble_eq_true rfl⟩) hD hS hA (fun v ws1 H locs hv hP hD hS => ?_)
  obtain ⟨Gi16, rfl, rfl, hG16⟩ := hv
  have hP : va_P G gcl (wM am ty (up (up τ 42 (sc (1))) 43 Gi16) (up (up (up ρ 14 (sc (0))) 45 (sc (1))) 44 (sc (36))) ++ cs) H := hP
  have hD : va_D A (wM am ty (up (up τ 42 (sc (1))) 43 Gi16) (up (up (up ρ 14 (sc (0))) 45 (sc (1))) 44 (sc (36))) ++ cs) := hD
  have hG16 : imgP_all (up τ 42 (sc (1))) Gi16 := hG16
  refine lv_aload_n hx hb dX12_image_19 rfl (lv_at hl 0 rfl) ?_
  refine va_get (D := G) (ci := 11) (v := .int (ii (τ 0 0))) (C := RX12) (T := TX12) (N := 52) hx hb hts in_X12 hown hK hP 0 (aM_0 _ _ _ _ _) rfl 0 (by decide) (hts _ q1265) (fun _ h9 => h9) rfl dX12_image_20 ?_
  exact eMi hQ hx hb hr hlk hP hD hS (Nat.le_of_ble_eq_true rfl) (Nat.le_of_ble_eq_true rfl) dX12_image_23 (⟨Gi16, rfl, rfl, hG16⟩)
set_option maxHeartbeats 4000000 in
theorem m_restoreNM (l : Launch) (G : va_G) (am : Nat → Nat) (ty : Nat → ClassId) (τ ρ : mem) (cs : va_W)   (h42 : (τ 42 0) = 0) : cM l yX12_restore (ws_ yX12_restore cX12_restore 1 (some .int)) (rm4 0 0 0 0) G ty (wM am ty τ ρ ++ cs) [.ref (am 0)] 0 0 (fun r W' => r = some (.int (ii (-3))) ∧ W' = wM am ty τ (up ρ 14 (sc (0))) ++ cs) := by
  refine cM.of (by decide) (Nat.le_of_ble_eq_true rfl) ?_
  intro p e s m args below meth c A Q H locs hQ hx hb hr hml hown hlk hname hts hK hP hD hS hA hX ls hl
  have hl : lv_has ls 1 [(0, .ref (am 0))] := hl
  refine lv_aload_n hx hb dX12_restore_0 rfl (lv_at hl 0 rfl) ?_
  refine li_iconst hx hb dX12_restore_1 ?_
  refine va_put (D := G) (ci := 11) (v := .int (ii 0)) (ty := .int) (C := RX12) (T := TX12) (N := 52) hx hb hts in_X12 tyX12 tyX12_ok nmX12 hown hK hP hD hS 0 (aM_0 _ _ _ _ _) rfl 14 (by decide) (hts _ q1279) (fun _ h9 => h9) rfl (tyX12_ok 14 (by decide)) rfl rfl (Nat.le_of_ble_eq_true rfl) dX12_restore_2 (fun H locs hP hD hS => ?_)
  have hP : va_P G gcl (wM am ty τ (up ρ 14 (sc (0))) ++ cs) H := hP
  have hD : va_D A (wM am ty τ (up ρ 14 (sc (0))) ++ cs) := hD
  refine lv_aload_n hx hb dX12_restore_5 rfl (lv_at hl 0 rfl) ?_
  refine va_get (D := G) (ci := 11) (v := .int (ii (τ 42 0))) (C := RX12) (T := TX12) (N := 52) hx hb hts in_X12 hown hK hP 0 (aM_0 _ _ _ _ _) rfl 42 (by decide) (hts _ q1307) (fun _ h9 => h9) rfl dX12_restore_6 ?_
  refine li_if_ne (tgt := 15) hx hb ⟨by omega, by omega⟩ dX12_restore_9 (by decide) (fun c9 => ?_) (fun c9 => ?_)
  · exfalso
    omega
  · refine li_bipush hx hb dX12_restore_12 (by decide) ?_
    exact eMi hQ hx hb hr hlk hP hD hS (Nat.le_of_ble_eq_true rfl) (Nat.le_of_ble_eq_true rfl) dX12_restore_14 (⟨rfl, rfl⟩)
set_option maxHeartbeats 4000000 in
theorem m_restoreYM (l : Launch) (G : va_G) (am : Nat → Nat) (ty : Nat → ClassId) (τ ρ : mem) (cs : va_W)   (h42 : (τ 42 0) = 1) (hz4 : ∀ i, (τ 4) i = 0 ∨ (τ 4) i = 1) (hg4 : ∀ i, 0 ≤ i → i < 5 → (τ 43) (9 + 4 * i) = 0 ∨ (τ 43) (9 + 4 * i) = 1) : cM l yX12_restore (ws_ yX12_restore cX12_restore 1 (some .int)) (rm4 2 0 0 42) G ty (wM am ty τ ρ ++ cs) [.ref (am 0)] 0 0 (fun r W' => ∃ (a1 : Int → Int) (a2 : Int → Int) (a3 : Int → Int) (a4 : Int → Int) (a6 : Int → Int) (a9 : Int → Int) (a8 : Int → Int) (a10 : Int → Int), r = some (.int (ii ((τ 43) 0))) ∧ W' = wM am ty (up (up (up (up (up (up (up (up (up (up (up (up (up (up τ 0 (sc ((τ 43) 0))) 5 (sc ((τ 43) 1))) 7 (sc ((τ 43) 2))) 11 (sc ((τ 43) 3))) 12 (sc ((τ 43) 4))) 13 (sc ((τ 43) 5))) 1 a1) 2 a2) 3 a3) 4 a4) 6 a6) 9 a9) 8 a8) 10 a10) (up (up (up (up ρ 14 (sc (0))) 45 (sc (0))) 36 (sc (0))) 44 (sc (36))) ++ cs ∧ (resP_all (τ 43) a1 a2 a3 a4 a6 a9 a8 a10) ∧ (∀ i, a4 i = 0 ∨ a4 i = 1)) := by
  refine cM.of (by decide) (Nat.le_of_ble_eq_true rfl) ?_
  intro p e s m args below meth c A Q H locs hQ hx hb hr hml hown hlk hname hts hK hP hD hS hA hX ls hl
  have hl : lv_has ls 1 [(0, .ref (am 0))] := hl
  refine lv_aload_n hx hb dX12_restore_0 rfl (lv_at hl 0 rfl) ?_
  refine li_iconst hx hb dX12_restore_1 ?_
  refine va_put (D := G) (ci := 11) (v := .int (ii 0)) (ty := .int) (C := RX12) (T := TX12) (N := 52) hx hb hts in_X12 tyX12 tyX12_ok nmX12 hown hK hP hD hS 0 (aM_0 _ _ _ _ _) rfl 14 (by decide) (hts _ q1279) (fun _ h9 => h9) rfl (tyX12_ok 14 (by decide)) rfl rfl (Nat.le_of_ble_eq_true rfl) dX12_restore_2 (fun H locs hP hD hS => ?_)
  have hP : va_P G gcl (wM am ty τ (up ρ 14 (sc (0))) ++ cs) H := hP
  have hD : va_D A (wM am ty τ (up ρ 14 (sc (0))) ++ cs) := hD
  refine lv_aload_n hx hb dX12_restore_5 rfl (lv_at hl 0 rfl) ?_
  refine va_get (D := G) (ci := 11) (v := .int (ii (τ 42 0))) (C := RX12) (T := TX12) (N := 52) hx hb hts in_X12 hown hK hP 0 (aM_0 _ _ _ _ _) rfl 42 (by decide) (hts _ q1307) (fun _ h9 => h9) rfl dX12_restore_6 ?_
  refine li_if_ne (tgt := 15) hx hb ⟨by omega, by omega⟩ dX12_restore_9 (by decide) (fun c9 => ?_) (fun c9 => ?_)
  · refine lv_aload_n hx hb dX12_restore_15 rfl (lv_at hl 0 rfl) ?_
    refine li_iconst hx hb dX12_restore_16 ?_
    refine va_put (D := G) (ci := 11) (v := .int (ii 0)) (ty := .boolean) (C := RX12) (T := TX12) (N := 52) hx hb hts in_X12 tyX12 tyX12_ok nmX12 hown hK hP hD hS 0 (aM_0 _ _ _ _ _) rfl 45 (by decide) (hts _ q1310) (fun _ h9 => h9) rfl (tyX12_ok 45 (by decide)) (nrw_z (by omega)) (fit_z (by omega)) (Nat.le_of_ble_eq_true rfl) dX12_restore_17 (fun H locs hP hD hS => ?_)
    have hP : va_P G gcl (wM am ty τ (up (up ρ 14 (sc (0))) 45 (sc (0))) ++ cs) H := hP
    have hD : va_D A (wM am ty τ (up (up ρ 14 (sc (0))) 45 (sc (0))) ++ cs) := hD
    refine lv_aload_n hx hb dX12_restore_20 rfl (lv_at hl 0 rfl) ?_
    refine li_iconst hx hb dX12_restore_21 ?_
    refine va_put (D := G) (ci := 11) (v := .int (ii 0)) (ty := .boolean) (C := RX12) (T := TX12) (N := 52) hx hb hts in_X12 tyX12 tyX12_ok nmX12 hown hK hP hD hS 0 (aM_0 _ _ _ _ _) rfl 36 (by decide) (hts _ q1301) (fun _ h9 => h9) rfl (tyX12_ok 36 (by decide)) (nrw_z (by omega)) (fit_z (by omega)) (Nat.le_of_ble_eq_true rfl) dX12_restore_22 (fun H locs hP hD hS => ?_)
    have hP : va_P G gcl (wM am ty τ (up (up (up ρ 14 (sc (0))) 45 (sc (0))) 36 (sc (0))) ++ cs) H := hP
    have hD : va_D A (wM am ty τ (up (up (up ρ 14 (sc (0))) 45 (sc (0))) 36 (sc (0))) ++ cs) := hD
    refine lv_aload_n hx hb dX12_restore_25 rfl (lv_at hl 0 rfl) ?_
    refine kM (va_runV (As := []) (rest := []) ⟨hx, hb, hml, hown, hts⟩ ((m_carryAllR l G am ty τ (up (up (up ρ 14 (sc (0))) 45 (sc (0))) 36 (sc (0))) cs (show 0 = 0 from rfl) (show ∀ i, (τ 4) i = 0 ∨ (τ 4) i = 1 from hz4) (show ∀ i, 0 ≤ i → i < 5 → (τ 43) (9 + 4 * i) = 0 ∨ (τ 43) (9 + 4 * i) = 1 from hg4)) H.size) (cwV 0 hts (lw_V q1691 q1693 qs72 q87 q1694) rfl rfl rfl (by decide +kernel) ⟨Nat.le_of_ble_eq_true rfl, Nat.le_of_ble_eq_true rfl⟩) (pvM (r := (RX12, TX12, 52)) hK hP hD hX 0 (aM_0 _ _ _ _ _) rfl) rfl rfl hl.1 rfl (lv_room (Nat.le_of_ble_eq_true rfl)) dX12_restore_26 ⟨Nat.le_of_ble_eq_true rfl, Nat.le_of_ble_eq_true rfl⟩) hD hS hA (fun v ws1 H locs hv hP hD hS => ?_)
    obtain ⟨a126, a226, a326, a426, a626, a926, a826, a1026, rfl, rfl, hG26, hz426⟩ := hv
    have hP : va_P G gcl (wM am ty (up (up (up (up (up (up (up (up (up (up (up (up (up (up τ 0 (sc ((τ 43) 0))) 5 (sc ((τ 43) 1))) 7 (sc ((τ 43) 2))) 11 (sc ((τ 43) 3))) 12 (sc ((τ 43) 4))) 13 (sc ((τ 43) 5))) 1 a126) 2 a226) 3 a326) 4 a426) 6 a626) 9 a926) 8 a826) 10 a1026) (up (up (up (up ρ 14 (sc (0))) 45 (sc (0))) 36 (sc (0))) 44 (sc (36))) ++ cs) H := hP
    have hD : va_D A (wM am ty (up (up (up (up (up (up (up (up (up (up (up (up (up (up τ 0 (sc ((τ 43) 0))) 5 (sc ((τ 43) 1))) 7 (sc ((τ 43) 2))) 11 (sc ((τ 43) 3))) 12 (sc ((τ 43) 4))) 13 (sc ((τ 43) 5))) 1 a126) 2 a226) 3 a326) 4 a426) 6 a626) 9 a926) 8 a826) 10 a1026) (up (up (up (up ρ 14 (sc (0))) 45 (sc (0))) 36 (sc (0))) 44 (sc (36))) ++ cs) := hD
    have hG26 : resP_all (τ 43) a126 a226 a326 a426 a626 a926 a826 a1026 := hG26
    have hz426 : ∀ i, a426 i = 0 ∨ a426 i = 1 := hz426
    refine lv_aload_n hx hb dX12_restore_29 rfl (lv_at hl 0 rfl) ?_
    refine va_get (D := G) (ci := 11) (v := .int (ii ((τ 43) 0))) (C := RX12) (T := TX12) (N := 52) hx hb hts in_X12 hown hK hP 0 (aM_0 _ _ _ _ _) rfl 0 (by decide) (hts _ q1265) (fun _ h9 => h9) rfl dX12_restore_30 ?_
    exact eMi hQ hx hb hr hlk hP hD hS (Nat.le_of_ble_eq_true rfl) (Nat.le_of_ble_eq_true rfl) dX12_restore_33 (⟨a126, a226, a326, a426, a626, a926, a826, a1026, rfl, rfl, hG26, hz426⟩)
  · exfalso
    omega
