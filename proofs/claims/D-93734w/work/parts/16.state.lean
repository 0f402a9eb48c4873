/-! STATES by numbers: their spots, the moves from them, what is kept -/
def stW (c : Int) : Int → Int := dcw c (fun _ => 0)
def stQ (c : Int) : Int → Int := dcq c (fun _ => 0)
theorem cdv_dig {w q : Int → Int} (hw : ∀ i, 0 ≤ w i ∧ w i ≤ 4) (hq : ∀ i, 0 ≤ q i ∧ q i ≤ 5) : inSt (cdv w q) ∧ cdv w q % 5 = w 0 ∧ cdv w q / 5 % 5 = w 1 ∧ cdv w q / 25 % 5 = w 2 ∧ cdv w q / 125 % 6 = q 0 ∧ cdv w q / 750 % 6 = q 1 := by
  have h0 := hw 0
  have h1 := hw 1
  have h2 := hw 2
  have g0 := hq 0
  have g1 := hq 1
  have e : cdv w q = 125 * (6 * q 1 + q 0) + 25 * w 2 + 5 * w 1 + w 0 := rfl
  rw [e]
  refine ⟨⟨by omega, by omega⟩, by omega, by omega, by omega, by omega, by omega⟩
theorem dcw_0 (c : Int) (w : Int → Int) : dcw c w 0 = c % 5 := by simp [dcw, ug]
theorem dcw_1 (c : Int) (w : Int → Int) : dcw c w 1 = c / 5 % 5 := by simp [dcw, ug]
theorem dcw_2 (c : Int) (w : Int → Int) : dcw c w 2 = c / 25 % 5 := by simp [dcw, ug]
theorem dcq_0 (c : Int) (q : Int → Int) : dcq c q 0 = c / 125 % 6 := by simp [dcq, ug]
theorem dcq_1 (c : Int) (q : Int → Int) : dcq c q 1 = c / 750 % 6 := by simp [dcq, ug]
theorem dcw_b {c : Int} {w : Int → Int} (hw : ∀ i, 0 ≤ w i ∧ w i ≤ 4) : ∀ i, 0 ≤ dcw c w i ∧ dcw c w i ≤ 4 := fun i => by
  have := hw i
  simp only [dcw, ug]
  split
  · omega
  · split
    · omega
    · split <;> omega
theorem dcq_b {c : Int} {q : Int → Int} (hq : ∀ i, 0 ≤ q i ∧ q i ≤ 5) : ∀ i, 0 ≤ dcq c q i ∧ dcq c q i ≤ 5 := fun i => by
  have := hq i
  simp only [dcq, ug]
  split
  · omega
  · split <;> omega
theorem st_wf (c : Int) : wfS (stW c) (stQ c) := ⟨dcw_b (fun _ => ⟨by decide, by decide⟩), dcq_b (fun _ => ⟨by decide, by decide⟩)⟩
/-- a spot's number tells the spot -/
theorem st_cdv {w q : Int → Int} (h : wfS w q) : stW (cdv w q) 0 = w 0 ∧ stW (cdv w q) 1 = w 1 ∧ stW (cdv w q) 2 = w 2 ∧ stQ (cdv w q) 0 = q 0 ∧ stQ (cdv w q) 1 = q 1 := by
  obtain ⟨-, a, b, c, d, e⟩ := cdv_dig h.1 h.2
  refine ⟨?_, ?_, ?_, ?_, ?_⟩
  · unfold stW; rw [dcw_0]; exact a
  · unfold stW; rw [dcw_1]; exact b
  · unfold stW; rw [dcw_2]; exact c
  · unfold stQ; rw [dcq_0]; exact d
  · unfold stQ; rw [dcq_1]; exact e
/-- spots alike -/
def alike (w q w' q' : Int → Int) : Prop := w 0 = w' 0 ∧ w 1 = w' 1 ∧ w 2 = w' 2 ∧ q 0 = q' 0 ∧ q 1 = q' 1
theorem alike.symm {w q w' q' : Int → Int} (h : alike w q w' q') : alike w' q' w q := ⟨h.1.symm, h.2.1.symm, h.2.2.1.symm, h.2.2.2.1.symm, h.2.2.2.2.symm⟩
theorem alike_dc (c : Int) (w q : Int → Int) : alike (dcw c w) (dcq c q) (stW c) (stQ c) := by
  unfold stW stQ
  exact ⟨by rw [dcw_0, dcw_0], by rw [dcw_1, dcw_1], by rw [dcw_2, dcw_2], by rw [dcq_0, dcq_0], by rw [dcq_1, dcq_1]⟩
theorem alike_cdv {w q : Int → Int} (h : wfS w q) : alike w q (stW (cdv w q)) (stQ (cdv w q)) := by
  obtain ⟨a, b, c, d, e⟩ := st_cdv h
  exact ⟨a.symm, b.symm, c.symm, d.symm, e.symm⟩
theorem goP_al {F : mem} {w w' : Int → Int} {g fr hale p : Int} (h : w p = w' p) : goP F w g fr hale p ↔ goP F w' g fr hale p := by unfold goP; rw [h]
theorem tpV_al {F : mem} {w w' : Int → Int} {g to p : Int} (h : w p = w' p) : tpV F w g to p = tpV F w' g to p := by unfold tpV; rw [h]
theorem okGo_al {F : mem} {w w' : Int → Int} {st fr to hale : Int} (h0 : w 0 = w' 0) (h1 : w 1 = w' 1) (h2 : w 2 = w' 2) : okGo F w st fr to hale ↔ okGo F w' st fr to hale := by
  unfold okGo
  rw [goP_al h0, goP_al h1, goP_al h2, tpV_al h0, tpV_al h1, tpV_al h2]
theorem okHelp_al {F : mem} {w w' : Int → Int} {st fr : Int} (h0 : w 0 = w' 0) (h1 : w 1 = w' 1) (h2 : w 2 = w' 2) : okHelp F w st fr ↔ okHelp F w' st fr := by
  unfold okHelp
  rw [h0, h1, h2]
theorem okRope_al {F : mem} {q q' : Int → Int} {r fr : Int} (h : q r = q' r) : okRope F q r fr ↔ okRope F q' r fr := by unfold okRope; rw [h]
theorem mnOk_al {F : mem} {w q w' q' : Int → Int} {k st r fr to : Int} (h : alike w q w' q') (hr : r = 0 ∨ r = 1) : mnOk F w q k st r fr to ↔ mnOk F w' q' k st r fr to := by
  obtain ⟨h0, h1, h2, g0, g1⟩ := h
  have hq : q r = q' r := by rcases hr with rfl | rfl; exact g0; exact g1
  unfold mnOk
  rw [okGo_al (to := to) (hale := 1) h0 h1 h2, okGo_al (to := to) (hale := 0) h0 h1 h2, okHelp_al h0 h1 h2, okRope_al hq, okRope_al g0, okRope_al g1]
theorem lgl_al {F : mem} {w q w' q' : Int → Int} (h : alike w q w' q') : lgl F w q = lgl F w' q' := by
  funext m
  refine propext ⟨fun a => ⟨a.1, ?_⟩, fun a => ⟨a.1, ?_⟩⟩
  · have := isT_m a.1
    exact (mnOk_al h (by omega)).mp a.2
  · have := isT_m a.1
    exact (mnOk_al h (by omega)).mpr a.2
theorem nxS_al {w q w' q' : Int → Int} (m : Int) (h : alike w q w' q') : nxS m w q = nxS m w' q' :=
  cdv_congr (mvw_at h.1) (mvw_at h.2.1) (mvw_at h.2.2.1) (mvq_at h.2.2.2.1) (mvq_at h.2.2.2.2)
theorem nxC_al {w q w' q' : Int → Int} (m : Int) (h : alike w q w' q') : nxC m w = nxC m w' := by
  unfold nxC nxW
  rw [mvw_at h.1, mvw_at h.2.1, mvw_at h.2.2.1]
theorem cdv_al {w q w' q' : Int → Int} (h : alike w q w' q') : cdv w q = cdv w' q' := cdv_congr h.1 h.2.1 h.2.2.1 h.2.2.2.1 h.2.2.2.2
/-- a move may be made from a state; the state behind it; that with the knot caught -/
def leg (F : mem) (c m : Int) : Prop := lgl F (stW c) (stQ c) m
def nx (c m : Int) : Int := nxS m (stW c) (stQ c)
def nxc (c m : Int) : Int := nxC m (stW c)
theorem lgl_dc (F : mem) (c : Int) (w q : Int → Int) : lgl F (dcw c w) (dcq c q) = leg F c := lgl_al (alike_dc c w q)
theorem nxS_dc (m c : Int) (w q : Int → Int) : nxS m (dcw c w) (dcq c q) = nx c m := nxS_al m (alike_dc c w q)
theorem nxC_dc (m c : Int) (w : Int → Int) : nxC m (dcw c w) = nxc c m := nxC_al m (alike_dc c w w)
/-- whom a face has stands on its ledges -/
def okC (F : mem) (c : Int) : Prop := (0 < F 9 0 → c % 5 < F 8 0) ∧ (1 < F 9 0 → c / 5 % 5 < F 8 0) ∧ (2 < F 9 0 → c / 25 % 5 < F 8 0)
theorem okC_dc {F : mem} {c : Int} {w : Int → Int} (h : okC F c) : (0 < F 9 0 → 0 ≤ dcw c w 0 ∧ dcw c w 0 < F 8 0) ∧ (1 < F 9 0 → 0 ≤ dcw c w 1 ∧ dcw c w 1 < F 8 0) ∧ (2 < F 9 0 → 0 ≤ dcw c w 2 ∧ dcw c w 2 < F 8 0) := by
  rw [dcw_0, dcw_1, dcw_2]
  obtain ⟨a, b, d⟩ := h
  exact ⟨fun x => ⟨by omega, a x⟩, fun x => ⟨by omega, b x⟩, fun x => ⟨by omega, d x⟩⟩
theorem okC_cdv {F : mem} {w q : Int → Int} (h : wfS w q) (hl : (0 < F 9 0 → 0 ≤ w 0 ∧ w 0 < F 8 0) ∧ (1 < F 9 0 → 0 ≤ w 1 ∧ w 1 < F 8 0) ∧ (2 < F 9 0 → 0 ≤ w 2 ∧ w 2 < F 8 0)) : okC F (cdv w q) := by
  obtain ⟨-, a, b, c, -⟩ := cdv_dig h.1 h.2
  unfold okC
  rw [a, b, c]
  exact ⟨fun x => (hl.1 x).2, fun x => (hl.2.1 x).2, fun x => (hl.2.2 x).2⟩
theorem mvw_b {st to : Int} {w : Int → Int} (ht : 0 ≤ to ∧ to ≤ 4) (hw : ∀ i, 0 ≤ w i ∧ w i ≤ 4) : ∀ i, 0 ≤ mvw st to w i ∧ mvw st to w i ≤ 4 := fun i => by
  have := hw i
  simp only [mvw]
  split <;> omega
theorem ug_b {g : Int → Int} {k v a b : Int} (hv : a ≤ v ∧ v ≤ b) (hg : ∀ i, a ≤ g i ∧ g i ≤ b) : ∀ i, a ≤ ug g k v i ∧ ug g k v i ≤ b := fun i => by
  have := hg i
  simp only [ug]
  split <;> omega
theorem mvq_b {k r to : Int} {q : Int → Int} (ht : 0 ≤ to ∧ to ≤ 4) (hq : ∀ i, 0 ≤ q i ∧ q i ≤ 5) : ∀ i, 0 ≤ mvq k r to q i ∧ mvq k r to q i ≤ 5 := by
  unfold mvq
  have ht5 : 0 ≤ to ∧ to ≤ 5 := by omega
  split
  · exact ug_b ht5 hq
  · split
    · exact ug_b (by decide) hq
    · split
      · exact ug_b ht5 (ug_b ht5 hq)
      · exact hq
theorem nx_wf {m : Int} {w q : Int → Int} (hm : isT m) (h : wfS w q) : wfS (nxW m w) (nxQ m q) := by
  have := isT_m hm
  exact ⟨mvw_b (by omega) h.1, mvq_b (by omega) h.2⟩
theorem nx_in {c m : Int} (h : isT m) : inSt (nx c m) := (cdv_dig (nx_wf h (st_wf c)).1 (nx_wf h (st_wf c)).2).1
theorem okC_w {F : mem} {m : Int} {w : Int → Int} {a b d : Int} (ha : a = nxW m w 0) (hb : b = nxW m w 1) (hd : d = nxW m w 2) (ht : m % 10 < F 8 0) (h : (0 < F 9 0 → w 0 < F 8 0) ∧ (1 < F 9 0 → w 1 < F 8 0) ∧ (2 < F 9 0 → w 2 < F 8 0)) : (0 < F 9 0 → a < F 8 0) ∧ (1 < F 9 0 → b < F 8 0) ∧ (2 < F 9 0 → d < F 8 0) := by
  subst ha; subst hb; subst hd
  obtain ⟨h1, h2, h3⟩ := h
  simp only [nxW, mvw]
  refine ⟨fun x => ?_, fun x => ?_, fun x => ?_⟩
  · have := h1 x; split <;> omega
  · have := h2 x; split <;> omega
  · have := h3 x; split <;> omega
theorem okC_st {F : mem} {c : Int} (h : okC F c) : (0 < F 9 0 → stW c 0 < F 8 0) ∧ (1 < F 9 0 → stW c 1 < F 8 0) ∧ (2 < F 9 0 → stW c 2 < F 8 0) := by
  unfold stW
  rw [dcw_0, dcw_1, dcw_2]
  exact h
theorem okC_nx {F : mem} {c m : Int} (h : okC F c) (hm : leg F c m) : okC F (nx c m) := by
  obtain ⟨-, a, b, d, -⟩ := cdv_dig (nx_wf hm.1 (st_wf c)).1 (nx_wf hm.1 (st_wf c)).2
  exact okC_w (F := F) (m := m) (w := stW c) a b d (lgl_to hm).2 (okC_st h)
theorem nxc_eq (c m : Int) : nxc c m = cdv (nxW m (stW c)) (fun _ => 5) := by
  show 125 * 35 + 25 * nxW m (stW c) 2 + 5 * nxW m (stW c) 1 + nxW m (stW c) 0 = 125 * (6 * 5 + 5) + 25 * nxW m (stW c) 2 + 5 * nxW m (stW c) 1 + nxW m (stW c) 0
  omega
theorem nxc_dig {c m : Int} (hm : isT m) : inSt (nxc c m) ∧ nxc c m % 5 = nxW m (stW c) 0 ∧ nxc c m / 5 % 5 = nxW m (stW c) 1 ∧ nxc c m / 25 % 5 = nxW m (stW c) 2 := by
  obtain ⟨i, a, b, d, -⟩ := cdv_dig (w := nxW m (stW c)) (q := fun _ => 5) (nx_wf hm (st_wf c)).1 (fun _ => ⟨by decide, by decide⟩)
  rw [nxc_eq]
  exact ⟨i, a, b, d⟩
theorem nxc_in {c m : Int} (h : isT m) : inSt (nxc c m) := (nxc_dig h).1
theorem okC_nxc {F : mem} {c m : Int} (h : okC F c) (hm : leg F c m) : okC F (nxc c m) := by
  obtain ⟨-, a, b, d⟩ := nxc_dig (c := c) hm.1
  exact okC_w (F := F) (m := m) (w := stW c) a b d (lgl_to hm).2 (okC_st h)
/-- the moves as edges; with knots that catch -/
def EF (F : mem) : edge := fun c v d => ∃ m, leg F c m ∧ v = mvV F m ∧ d = nx c m
def EC (F : mem) : edge := fun c v d => ∃ m, leg F c m ∧ v = mvV F m ∧ (d = nx c m ∨ (m / 10000 = 3 ∧ d = nxc c m))
theorem mvV_b {F : mem} {m : Int} (hW : wfF F) (h : isT m) : 1 ≤ mvV F m ∧ mvV F m ≤ 312 := by
  have := isT_m h
  exact mnV_b hW (by omega) (by omega) (by omega) (by omega) (by omega) (by omega)
theorem okE_F {F : mem} (hW : wfF F) : okE (EF F) := fun c v d _ ⟨m, h1, h2, h3⟩ => by
  have := mvV_b hW h1.1
  rw [h2, h3]
  exact ⟨nx_in h1.1, this.1, this.2⟩
theorem okE_C {F : mem} (hW : wfF F) : okE (EC F) := fun c v d _ ⟨m, h1, h2, h3⟩ => by
  have := mvV_b hW h1.1
  rw [h2]
  rcases h3 with rfl | ⟨-, rfl⟩
  · exact ⟨nx_in h1.1, this.1, this.2⟩
  · exact ⟨nxc_in h1.1, this.1, this.2⟩
theorem okC_walk {F : mem} {s c v : Int} (hs : okC F s) (h : Walk (EF F) s c v) : okC F c :=
  h (fun c _ => okC F c) hs (fun c v d w a ⟨m, h1, _, h3⟩ => by rw [h3]; exact okC_nx a h1)
theorem okC_walkC {F : mem} {s c v : Int} (hs : okC F s) (h : Walk (EC F) s c v) : okC F c :=
  h (fun c _ => okC F c) hs (fun c v d w a ⟨m, h1, _, h3⟩ => by
    rcases h3 with h3 | ⟨-, h3⟩ <;> rw [h3]
    · exact okC_nx a h1
    · exact okC_nxc a h1)
theorem Mt.okc {F : mem} {s n c : Int} {lab met : Int → Int} (h : Mt (EF F) s lab met n) (hs : okC F s) (hc : inSt c) (hl : lab c ≠ FARc) : okC F c := by
  rcases h.lb c hc with e | ⟨-, -, e⟩
  · exact absurd e hl
  · exact okC_walk hs e
theorem Mt.okcc {F : mem} {s n c : Int} {lab met : Int → Int} (h : Mt (EC F) s lab met n) (hs : okC F s) (hc : inSt c) (hl : lab c ≠ FARc) : okC F c := by
  rcases h.lb c hc with e | ⟨-, -, e⟩
  · exact absurd e hl
  · exact okC_walkC hs e
/-- the head of the queue is queued -/
theorem SK.head {E : edge} {s n fi ma : Int} {lab met qd que : Int → Int} {busy : Int → Prop} (h : SK E s lab met n qd que fi ma busy) (hm : 0 < ma) : ug qd (que fi) 1 = qd := by
  have h1 := h.qw 0 (by omega) hm
  have f0 := h.f0
  have f1 := h.f1
  rw [show (fi + 0) % 4500 = fi by omega] at h1
  funext x
  by_cases q : x = que fi
  · rw [q, ug_s, h1]
  · rw [ug_n q]
theorem ug_ug (g : Int → Int) (k a b : Int) : ug (ug g k a) k b = ug g k b := by
  funext x
  by_cases q : x = k
  · rw [q, ug_s, ug_s]
  · rw [ug_n q, ug_n q, ug_n q]
/-- the moves of a state that are gone through so far -/
def gone (F : mem) (c : Int) (lab : Int → Int) (k : Int) : Prop := ∀ m, leg F c m → cn (leg F c) m < k → lab (nx c m) ≤ lab c + mvV F m
theorem gone_0 (F : mem) (c : Int) (lab : Int → Int) : gone F c lab 0 := fun m h1 h2 => by
  have := cn_nn (P := leg F c) (m := m) h1.1.1
  omega
theorem gone_s {F : mem} {c m k : Int} {lab lab' : Int → Int} (h : gone F c lab k) (hm : leg F c m) (hk : cn (leg F c) m = k) (hc : lab' c = lab c) (hle : ∀ x, lab' x ≤ lab x) (h1 : lab' (nx c m) ≤ lab c + mvV F m) : gone F c lab' (k + 1) := fun x a b => by
  rw [hc]
  rcases Int.lt_or_le (cn (leg F c) x) k with q | q
  · exact Int.le_trans (hle _) (h x a q)
  · have e : x = m := cn_inj a.1.1 hm.1.1 a hm (by omega)
    rw [e]; exact h1
theorem gone_all {F : mem} {c k : Int} {lab : Int → Int} (h : gone F c lab k) (hk : cn (leg F c) 70000 ≤ k) : ∀ v d, EF F c v d → lab d ≤ lab c + v := fun v d ⟨m, h1, h2, h3⟩ => by
  rw [h2, h3]
  refine h m h1 ?_
  have := h1.1
  have := cn_lt (P := leg F c) (a := m) (b := 70000) h1.1.1 (by have := h1.1.2.1; omega) h1
  omega
