/-! THE MODEL's WAYS DOWN, pure: a search of one alone, by a stack -/
set_option maxRecDepth 100000
theorem CIx_2 {F : mem} {il n8 nm : Int} {la me gm ld : Int → Int} (h1 : Sought (EF F) (cdv (F 6) (F 7)) la me n8) (h2 : LL (cand F) gm nm 70000) (h3 : 0 ≤ nm ∧ nm ≤ 2400) (h4 : ldP F la ld) (hil : il = 0 ∨ il = 1 := by decide) : CIx F 1 il la me n8 gm nm ld :=
  ⟨.inr rfl, hil, fun _ => ⟨h1, h2, h3, fun _ => h4⟩⟩
def aloneW (F : mem) (a : Int) (w : Int → Int) : Prop := (0 < F 9 0 → (w 0 = F 8 0 - 1 ↔ ¬ a = 0)) ∧ (1 < F 9 0 → (w 1 = F 8 0 - 1 ↔ ¬ a = 1)) ∧ (2 < F 9 0 → (w 2 = F 8 0 - 1 ↔ ¬ a = 2))
theorem aloneW_al {F : mem} {a c : Int} {w q : Int → Int} (h : alike w q (stW c) (stQ c)) : aloneW F a w ↔ alone F a c := by
  obtain ⟨x, y, z, -⟩ := h
  unfold aloneW alone
  rw [x.trans (dcw_0 c _), y.trans (dcw_1 c _), z.trans (dcw_2 c _)]
theorem dnW_nx {F : mem} {c m : Int} {w q : Int → Int} (h : alike w q (stW c) (stQ c)) (hm : isT m) (hS : wfS w q) : dnW F (mvw (m / 1000 % 10) (m % 10) w) ↔ dn F (nx c m) := by
  have e := cdv_dig3 (nx_wf hm hS)
  have e2 : cdv (nxW m w) (nxQ m q) = nx c m := nxS_al m h
  rw [e2] at e
  exact dn_iff e
theorem alone_dn {F : mem} {a c : Int} (ha : 0 ≤ a ∧ a < F 9 0) (h3 : F 9 0 ≤ 3) (h : alone F a c) : ¬ dn F c := fun q => by
  obtain ⟨a0, a1, a2⟩ := h
  obtain ⟨d0, d1, d2⟩ := q
  rcases (show a = 0 ∨ a = 1 ∨ a = 2 by omega) with e | e | e
  · exact ((a0 (by omega)).mp (d0 (by omega))) e
  · exact ((a1 (by omega)).mp (d1 (by omega))) e
  · exact ((a2 (by omega)).mp (d2 (by omega))) e
/-- a move of one alone leaves that one alone, or all are down -/
theorem alone_nx {F : mem} {a c m : Int} (ha : 0 ≤ a ∧ a < F 9 0) (h3 : F 9 0 ≤ 3) (h : alone F a c) (hm : isT m) (hs : setOk a m) : alone F a (nx c m) ∨ dn F (nx c m) := by
  have e := cdv_dig3 (nx_wf hm (st_wf c))
  have e2 : cdv (nxW m (stW c)) (nxQ m (stQ c)) = nx c m := rfl
  rw [e2] at e
  obtain ⟨x0, x1, x2⟩ := e
  unfold nxW at x0 x1 x2
  rw [mvw_0] at x0
  rw [mvw_1] at x1
  rw [mvw_2] at x2
  have w0 : stW c 0 = c % 5 := dcw_0 c _
  have w1 : stW c 1 = c / 5 % 5 := dcw_1 c _
  have w2 : stW c 2 = c / 25 % 5 := dcw_2 c _
  rw [w0] at x0
  rw [w1] at x1
  rw [w2] at x2
  have hp : p2 a = if a = 0 then 1 else if a = 1 then 2 else if a = 2 then 4 else 8 := rfl
  obtain ⟨a0, a1, a2⟩ := h
  have hd := isT_m hm
  unfold setOk at hs
  unfold alone dn
  generalize m / 1000 % 10 = s at *
  generalize m % 10 = t at *
  generalize nx c m % 5 = y0 at *
  generalize nx c m / 5 % 5 = y1 at *
  generalize nx c m / 25 % 5 = y2 at *
  generalize c % 5 = z0 at *
  generalize c / 5 % 5 = z1 at *
  generalize c / 25 % 5 = z2 at *
  have hs2 : s = 0 ∨ (a = 0 ∧ s = 1) ∨ (a = 1 ∧ s = 2) ∨ (a = 2 ∧ s = 4) := by
    rcases (show a = 0 ∨ a = 1 ∨ a = 2 by omega) with e | e | e
    · rw [e] at hp hs
      rw [if_pos rfl] at hp
      omega
    · rw [e] at hp hs
      rw [if_neg (by decide), if_pos rfl] at hp
      omega
    · rw [e] at hp hs
      rw [if_neg (by decide), if_neg (by decide), if_pos rfl] at hp
      omega
  clear hp hs
  rcases hs2 with rfl | ⟨rfl, rfl⟩ | ⟨rfl, rfl⟩ | ⟨rfl, rfl⟩
  · rw [if_neg (by decide)] at x0 x1 x2
    left
    rw [← x0, ← x1, ← x2]
    exact ⟨a0, a1, a2⟩
  · rw [if_pos (by decide)] at x0
    rw [if_neg (by decide)] at x1 x2
    rw [← x1, ← x2]
    by_cases q : y0 = F 8 0 - 1
    · right
      exact ⟨fun _ => q, fun y => (a1 y).mpr (by decide), fun y => (a2 y).mpr (by decide)⟩
    · left
      exact ⟨fun _ => ⟨fun z => absurd z q, fun z => absurd rfl z⟩, a1, a2⟩
  · rw [if_pos (by decide)] at x1
    rw [if_neg (by decide)] at x0 x2
    rw [← x0, ← x2]
    by_cases q : y1 = F 8 0 - 1
    · right
      exact ⟨fun y => (a0 y).mpr (by decide), fun _ => q, fun y => (a2 y).mpr (by decide)⟩
    · left
      exact ⟨a0, fun _ => ⟨fun z => absurd z q, fun z => absurd rfl z⟩, a2⟩
  · rw [if_pos (by decide)] at x2
    rw [if_neg (by decide)] at x0 x1
    rw [← x0, ← x1]
    by_cases q : y2 = F 8 0 - 1
    · right
      exact ⟨fun y => (a0 y).mpr (by decide), fun y => (a1 y).mpr (by decide), fun _ => q⟩
    · left
      exact ⟨a0, a1, fun _ => ⟨fun z => absurd z q, fun z => absurd rfl z⟩⟩
-- sets of places
theorem ug_1 {g : Int → Int} {k c : Int} (h : g c = 1) : ug g k 1 c = 1 := by
  by_cases q : c = k
  · rw [q, ug_s]
  · rw [ug_n q]; exact h
theorem cn_ug1 {g : Int → Int} {k : Int} (hk : inSt k) (h : ¬ g k = 1) : cn (fun c => ug g k 1 c = 1) 4500 = cn (fun c => g c = 1) 4500 + 1 :=
  cn_more (P := fun c => g c = 1) (P' := fun c => ug g k 1 c = 1) hk.1 hk.2 h (ug_s _ _ _) (fun i hi => by rw [ug_n hi])
/-- while the first states are laid on the stack -/
def dfsI (F : mem) (a : Int) (la me : Int → Int) (k : Int) (sn wt : Int → Int) (ma : Int) : Prop :=
  (∀ c, inSt c → sn c = 0 ∨ sn c = 1) ∧ 0 ≤ ma ∧ ma ≤ cn (fun c => sn c = 1) 4500 ∧ ma ≤ k ∧ (∀ j, 0 ≤ j → j < ma → inSt (wt j) ∧ sn (wt j) = 1) ∧
  (∀ c, inSt c → sn c = 1 → ∃ j, 0 ≤ j ∧ j < ma ∧ wt j = c) ∧ (∀ c, inSt c → sn c = 1 → la c ≠ FARc ∧ alone F a c ∧ ∃ i, 0 ≤ i ∧ i < k ∧ me i = c) ∧ (∀ i, 0 ≤ i → i < k → alone F a (me i) → sn (me i) = 1)
theorem dfsI_0 {F : mem} {a : Int} {la me sn wt : Int → Int} (h : ∀ c, inSt c → sn c = 0) : dfsI F a la me 0 sn wt 0 :=
  ⟨fun c hc => .inl (h c hc), Int.le_refl 0, cn_nn (by decide), Int.le_refl 0, fun j a b => by omega, fun c hc q => by rw [h c hc] at q; exact absurd q (by decide), fun c hc q => by rw [h c hc] at q; exact absurd q (by decide), fun i a b => by omega⟩
theorem dfsI_n {F : mem} {a k ma : Int} {la me sn wt : Int → Int} (h : dfsI F a la me k sn wt ma) (_ : 0 ≤ k) (hn : ¬ alone F a (me k)) : dfsI F a la me (k + 1) sn wt ma := by
  obtain ⟨h1, h2, h3, h4, h5, h6, h7, h8⟩ := h
  refine ⟨h1, h2, h3, by omega, h5, h6, fun c hc q => ?_, fun i a b q => ?_⟩
  · obtain ⟨x, y, i, i0, i1, e⟩ := h7 c hc q
    exact ⟨x, y, i, i0, by omega, e⟩
  · by_cases z : i = k
    · rw [z] at q; exact absurd q hn
    · exact h8 i a (by omega) q
theorem dfsI_s {E : edge} {F : mem} {a k ma s n : Int} {la me sn wt : Int → Int} (h : dfsI F a la me k sn wt ma) (hS : Sought E s la me n) (hk0 : 0 ≤ k) (hk : k < n) (ha : alone F a (me k)) : dfsI F a la me (k + 1) (ug sn (me k) 1) (ug wt ma (me k)) (ma + 1) := by
  obtain ⟨h1, h2, h3, h4, h5, h6, h7, h8⟩ := h
  have hm := hS.mt k hk0 hk
  have hn : ¬ sn (me k) = 1 := fun q => by
    obtain ⟨-, -, i, i0, i1, e⟩ := h7 _ hm.1 q
    have := hS.mi i k i0 (by omega) hk0 hk e
    omega
  refine ⟨ug_01 h1, by omega, by rw [cn_ug1 hm.1 hn]; omega, by omega, fun j j0 j1 => ?_, fun c hc q => ?_, fun c hc q => ?_, fun i i0 i1 q => ?_⟩
  · by_cases z : j = ma
    · rw [z, ug_s]; exact ⟨hm.1, ug_s _ _ _⟩
    · rw [ug_n z]
      have := h5 j j0 (by omega)
      exact ⟨this.1, ug_1 this.2⟩
  · by_cases z : c = me k
    · exact ⟨ma, h2, by omega, by rw [ug_s, z]⟩
    · rw [ug_n z] at q
      obtain ⟨j, j0, j1, e⟩ := h6 c hc q
      exact ⟨j, j0, by omega, by rw [ug_n (show j ≠ ma by omega)]; exact e⟩
  · by_cases z : c = me k
    · rw [z]; exact ⟨hm.2, ha, k, hk0, by omega, rfl⟩
    · rw [ug_n z] at q
      obtain ⟨x, y, i, i0, i1, e⟩ := h7 c hc q
      exact ⟨x, y, i, i0, by omega, e⟩
  · by_cases z : i = k
    · rw [z, ug_s]
    · exact ug_1 (h8 i i0 (by omega) q)
/-- the search of one alone: what is seen, the stack, what is gone through now -/
def dfsF (F : mem) (a : Int) (la sn wt : Int → Int) (ma : Int) (busy : Int → Prop) : Prop :=
  (∀ c, inSt c → sn c = 0 ∨ sn c = 1) ∧ 0 ≤ ma ∧ ma ≤ cn (fun c => sn c = 1) 4500 ∧ (∀ j, 0 ≤ j → j < ma → inSt (wt j) ∧ sn (wt j) = 1) ∧
  (∀ c, inSt c → sn c = 1 → alone F a c) ∧ (∀ c, inSt c → la c ≠ FARc → alone F a c → sn c = 1) ∧ (∀ c, inSt c → sn c = 1 → LeadA F a c → lastB F la a) ∧
  (∀ c, inSt c → sn c = 1 → (∃ j, 0 ≤ j ∧ j < ma ∧ wt j = c) ∨ busy c ∨ ∀ d, stepA F a c d → sn d = 1)
theorem dfsI_e {E : edge} {F : mem} {a k ma s n : Int} {la me sn wt : Int → Int} (h : dfsI F a la me k sn wt ma) (hS : Sought E s la me n) (hk : n ≤ k) : dfsF F a la sn wt ma (fun _ => False) := by
  obtain ⟨h1, h2, h3, h4, h5, h6, h7, h8⟩ := h
  refine ⟨h1, h2, h3, h5, fun c hc q => (h7 c hc q).2.1, fun c hc hl q => ?_, fun c hc q hL => ⟨c, hc, (h7 c hc q).1, (h7 c hc q).2.1, hL⟩, fun c hc q => .inl (h6 c hc q)⟩
  obtain ⟨i, i0, i1, e⟩ := hS.ms c hc hl
  have := h8 i i0 (by omega) (by rw [e]; exact q)
  rw [e] at this
  exact this
theorem dfs_pop {F : mem} {a ma : Int} {la sn wt : Int → Int} (h : dfsF F a la sn wt ma (fun _ => False)) (hm : 0 < ma) :
    inSt (wt (ma + (-1))) ∧ sn (wt (ma + (-1))) = 1 ∧ dfsF F a la sn wt (ma + (-1)) (fun c => c = wt (ma + (-1))) := by
  obtain ⟨h1, h2, h3, h4, h5, h6, h7, h8⟩ := h
  have h9 := h4 (ma + (-1)) (by omega) (by omega)
  refine ⟨h9.1, h9.2, h1, by omega, by omega, fun j j0 j1 => h4 j j0 (by omega), h5, h6, h7, fun c hc q => ?_⟩
  rcases h8 c hc q with ⟨j, j0, j1, e⟩ | e | e
  · by_cases z : j = ma + (-1)
    · exact .inr (.inl (by rw [← z]; exact e.symm))
    · exact .inl ⟨j, j0, by omega, e⟩
  · exact e.elim
  · exact .inr (.inr e)
theorem dfs_push {F : mem} {a ma c m : Int} {la sn wt : Int → Int} (h : dfsF F a la sn wt ma (fun x => x = c)) (hc : inSt c) (hs : sn c = 1) (ha : 0 ≤ a ∧ a < F 9 0) (hd : inSt (nx c m)) (hn : ¬ sn (nx c m) = 1) (hl : leg F c m) (hk : setOk a m) (hdn2 : ¬ dn F (nx c m)) (h3 : F 9 0 ≤ 3) :
    dfsF F a la (ug sn (nx c m) 1) (ug wt ma (nx c m)) (ma + 1) (fun x => x = c) := by
  obtain ⟨h1, h2, h3', h4, h5, h6, h7, h8⟩ := h
  have hal := (alone_nx ha h3 (h5 c hc hs) hl.1 hk).resolve_right hdn2
  refine ⟨ug_01 h1, by omega, by rw [cn_ug1 hd hn]; omega, fun j j0 j1 => ?_, fun x hx q => ?_, fun x hx hl q => ug_1 (h6 x hx hl q), fun x hx q hL => ?_, fun x hx q => ?_⟩
  · by_cases z : j = ma
    · rw [z, ug_s]; exact ⟨hd, ug_s _ _ _⟩
    · rw [ug_n z]
      have := h4 j j0 (by omega)
      exact ⟨this.1, ug_1 this.2⟩
  · by_cases z : x = nx c m
    · rw [z]; exact hal
    · rw [ug_n z] at q; exact h5 x hx q
  · by_cases z : x = nx c m
    · rw [z] at hL
      exact h7 c hc hs (.step (.inr (h5 c hc hs)) ⟨m, hl, hk, rfl⟩ hL)
    · rw [ug_n z] at q; exact h7 x hx q hL
  · by_cases z : x = nx c m
    · exact .inl ⟨ma, h2, by omega, by rw [ug_s, z]⟩
    · rw [ug_n z] at q
      rcases h8 x hx q with ⟨j, j0, j1, e⟩ | e | e
      · exact .inl ⟨j, j0, by omega, by rw [ug_n (show j ≠ ma by omega)]; exact e⟩
      · exact .inr (.inl e)
      · exact .inr (.inr (fun d hd => ug_1 (e d hd)))
theorem dfs_fin {F : mem} {a ma c : Int} {la sn wt : Int → Int} (h : dfsF F a la sn wt ma (fun x => x = c)) (hc : ∀ d, stepA F a c d → sn d = 1) : dfsF F a la sn wt ma (fun _ => False) := by
  obtain ⟨h1, h2, h3, h4, h5, h6, h7, h8⟩ := h
  refine ⟨h1, h2, h3, h4, h5, h6, h7, fun x hx q => ?_⟩
  rcases h8 x hx q with e | e | e
  · exact .inl e
  · exact .inr (.inr (by rw [e]; exact hc))
  · exact .inr (.inr e)
theorem dfs_yes {F : mem} {a ma c m : Int} {la sn wt : Int → Int} {busy : Int → Prop} (h : dfsF F a la sn wt ma busy) (hc : inSt c) (hs : sn c = 1) (hl : leg F c m) (hk : setOk a m) (hd : dn F (nx c m)) : lastB F la a :=
  h.2.2.2.2.2.2.1 c hc hs (.step (.inr (h.2.2.2.2.1 c hc hs)) ⟨m, hl, hk, rfl⟩ (.dn hd))
theorem dfs_e {F : mem} {a ma : Int} {la sn wt : Int → Int} (h : dfsF F a la sn wt ma (fun _ => False)) (hm : ma ≤ 0) (ha : 0 ≤ a ∧ a < F 9 0) (h3 : F 9 0 ≤ 3) : ¬ lastB F la a := fun ⟨c, hc, hl, hal, hL⟩ => by
  obtain ⟨h1, h2, -, h4, h5, h6, h7, h8⟩ := h
  refine hL (fun c => inSt c → ¬ sn c = 1) (fun c hd hc q => alone_dn ha h3 (h5 c hc q) hd) (fun c d hg hst ih hc q => ?_) hc (h6 c hc hl hal)
  obtain ⟨m, m1, m2, m3⟩ := id hst
  have hd : inSt d := by rw [m3]; exact nx_in m1.1
  rcases h8 c hc q with ⟨j, j0, j1, -⟩ | e | e
  · omega
  · exact e
  · exact ih hd (e d hst)
-- the set of all but one
def offb (s a : Int) : Int := if bit a s = 1 then s - p2 a else s
theorem s8 {s : Int} (h0 : 0 ≤ s) (h1 : s ≤ 7) : s = 0 ∨ s = 1 ∨ s = 2 ∨ s = 3 ∨ s = 4 ∨ s = 5 ∨ s = 6 ∨ s = 7 := by omega
theorem offb_0 {s a : Int} (h0 : 0 ≤ s) (h1 : s ≤ 7) (a0 : 0 ≤ a) (a1 : a ≤ 2) : offb s a = 0 ↔ s = 0 ∨ s = p2 a := by
  rcases s8 h0 h1 with rfl | rfl | rfl | rfl | rfl | rfl | rfl | rfl <;> rcases (show a = 0 ∨ a = 1 ∨ a = 2 by omega) with rfl | rfl | rfl <;> decide
theorem offb_rg {s a : Int} (h0 : 0 ≤ s) (h1 : s ≤ 7) (a0 : 0 ≤ a) (a1 : a ≤ 2) : rg (offb s a) := by
  have : 0 ≤ offb s a ∧ offb s a ≤ 7 := by
    rcases s8 h0 h1 with rfl | rfl | rfl | rfl | rfl | rfl | rfl | rfl <;> rcases (show a = 0 ∨ a = 1 ∨ a = 2 by omega) with rfl | rfl | rfl <;> decide
  exact ⟨by omega, by omega⟩
theorem ii_xorm {a : Int} (a0 : 0 ≤ a) (a1 : a ≤ 2) : ii (p2 a) ^^^ ii (-1) = ii (-1 - p2 a) := by
  rcases (show a = 0 ∨ a = 1 ∨ a = 2 by omega) with rfl | rfl | rfl <;> decide
theorem ii_offb {s a : Int} (h0 : 0 ≤ s) (h1 : s ≤ 7) (a0 : 0 ≤ a) (a1 : a ≤ 2) : ii s &&& ii (-1 - p2 a) = ii (offb s a) := by
  rcases s8 h0 h1 with rfl | rfl | rfl | rfl | rfl | rfl | rfl | rfl <;> rcases (show a = 0 ∨ a = 1 ∨ a = 2 by omega) with rfl | rfl | rfl <;> decide
theorem lastR_t {B : Int → Prop} {p z : Int} (h : lastR B p z) (hb : B p) (p0 : 0 ≤ p) (p1 : p ≤ 2) : lastR B (p + 1) (orv z p) :=
  lastK_e (lastK_or (lastK_0 (C := False) h id) p0 p1) ⟨fun _ => hb, fun _ => trivial⟩
theorem lastR_f {B : Int → Prop} {p z : Int} (h : lastR B p z) (hb : ¬ B p) : lastR B (p + 1) z :=
  lastK_e (lastK_0 (C := False) h id) ⟨False.elim, fun q => absurd q hb⟩
