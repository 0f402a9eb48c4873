/-! SEARCHES, more: the queue as a DownRope keeps it, what a search answers; faces that are sound; plain words of the answers -/
set_option maxRecDepth 100000
theorem ini_s {g : Int → Int} {k v : Int} (h : ∀ c, 0 ≤ c → c < k → g c = v) : ∀ c, 0 ≤ c → c < k + 1 → ug g k v c = v := fun c a b => by
  by_cases q : c = k
  · rw [q, ug_s]
  · rw [ug_n q]; exact h c a (by omega)
theorem ug_le {g : Int → Int} {k v : Int} (h : v ≤ g k) : ∀ x, ug g k v x ≤ g x := fun x => by
  by_cases q : x = k
  · rw [q, ug_s]; exact h
  · rw [ug_n q]; exact Int.le_refl _
theorem ug_same {g : Int → Int} {k v : Int} (h : g k = v) : ug g k v = g := by
  funext x
  by_cases q : x = k
  · rw [q, ug_s, h]
  · rw [ug_n q]
def hdq (qd que : Int → Int) (fi ma : Int) : Int → Int := if 0 < ma then ug qd (que fi) 1 else qd
/-- the queue of a DownRope: its head need not be marked as queued -/
def SD (E : edge) (s : Int) (lab met : Int → Int) (n : Int) (qd que : Int → Int) (fi ma : Int) : Prop := SK E s lab met n (hdq qd que fi ma) que fi ma (fun _ => False)
theorem SD.start (E : edge) {s : Int} (hs : inSt s) {lab0 met0 qd0 que0 : Int → Int} (hl : ∀ c, inSt c → lab0 c = FARc) (hq : ∀ c, inSt c → qd0 c = 0) :
    SD E s (ug lab0 s 0) (ug met0 0 s) 1 qd0 (ug que0 0 s) 0 1 := by
  unfold SD hdq
  rw [if_pos (by decide), ug_s]
  exact SK.start E hs hl hq
theorem SD.pop {E : edge} {s n fi ma : Int} {lab met qd que : Int → Int} (h : SD E s lab met n qd que fi ma) (hm : 0 < ma) :
    SK E s lab met n (ug qd (que fi) 0) que ((fi + 1) % 4500) (ma - 1) (fun c => c = que fi) ∧ inSt (que fi) ∧ lab (que fi) ≠ FARc := by
  unfold SD hdq at h
  rw [if_pos hm] at h
  obtain ⟨a, b, c, -⟩ := SK.pop h hm
  rw [ug_ug] at a
  exact ⟨a, b, c⟩
theorem SD.of {E : edge} {s n fi ma : Int} {lab met qd que : Int → Int} (h : SK E s lab met n qd que fi ma (fun _ => False)) : SD E s lab met n qd que fi ma := by
  unfold SD hdq
  by_cases hm : 0 < ma
  · rw [if_pos hm, SK.head h hm]; exact h
  · rw [if_neg hm]; exact h
theorem SD.done {E : edge} {s n fi ma : Int} {lab met qd que : Int → Int} (h : SD E s lab met n qd que fi ma) (hm : ma ≤ 0) : Sought E s lab met n := SK.done h hm
theorem SD.b {E : edge} {s n fi ma : Int} {lab met qd que : Int → Int} (h : SD E s lab met n qd que fi ma) : 0 ≤ fi ∧ fi < 4500 ∧ 0 ≤ ma ∧ ma ≤ 4500 := ⟨SK.f0 h, SK.f1 h, SK.m0 h, SK.m1 h⟩
theorem Mt.sm {E : edge} {s n : Int} {lab met : Int → Int} (h : Mt E s lab met n) : 0 ≤ smN lab 4500 := smN_nn (fun i a b => (h.rg ⟨a, b⟩).1)
theorem SD.sm {E : edge} {s n fi ma : Int} {lab met qd que : Int → Int} (h : SD E s lab met n qd que fi ma) : 0 ≤ smN lab 4500 := (SK.toMet h).sm
theorem Mt.room {E : edge} {s n c : Int} {lab met : Int → Int} (h : Mt E s lab met n) (hc : inSt c) (hl : lab c = FARc) : n < 4500 := by
  rw [h.nc]
  exact cn_room (P := fun c => lab c ≠ FARc) hc.1 hc.2 (fun q => q hl)
theorem SK.room {E : edge} {s n fi ma c : Int} {lab met qd que : Int → Int} {busy : Int → Prop} (h : SK E s lab met n qd que fi ma busy) (hc : inSt c) (hq : ¬ qd c = 1) : ma < 4500 := by
  rw [h.qc]
  exact cn_room (P := fun c => qd c = 1) hc.1 hc.2 hq
theorem SK.relaxQ {E : edge} {s n fi ma c v d : Int} {lab met qd que : Int → Int} (h : SK E s lab met n qd que fi ma (fun x => x = c)) (hc : inSt c) (hlc : lab c ≠ FARc) (he : E c v d) (hd : inSt d) (hv : 1 ≤ v) (hv2 : v ≤ 312) (hlt : lab c + v < lab d) (hq : qd d = 1) :
    SK E s (ug lab d (lab c + v)) (if lab d = FARc then ug met n d else met) (if lab d = FARc then n + 1 else n) qd que fi ma (fun x => x = c) := by
  have := SK.relax h hc hlc he hd hv hv2 hlt
  rw [if_pos hq, if_pos hq, if_pos hq] at this
  exact this
theorem SK.relaxN {E : edge} {s n fi ma c v d : Int} {lab met qd que : Int → Int} (h : SK E s lab met n qd que fi ma (fun x => x = c)) (hc : inSt c) (hlc : lab c ≠ FARc) (he : E c v d) (hd : inSt d) (hv : 1 ≤ v) (hv2 : v ≤ 312) (hlt : lab c + v < lab d) (hq : ¬ qd d = 1) :
    SK E s (ug lab d (lab c + v)) (if lab d = FARc then ug met n d else met) (if lab d = FARc then n + 1 else n) (ug qd d 1) (ug que ((fi + ma) % 4500) d) fi (ma + 1) (fun x => x = c) := by
  have := SK.relax h hc hlc he hd hv hv2 hlt
  rw [if_neg hq, if_neg hq, if_neg hq] at this
  exact this
-- ===== faces =====
/-- a face with its spot, sound: whom it has stands on its ledges -/
def okF (F : mem) : Prop := wfF F ∧ wfS (F 6) (F 7) ∧ ((0 < F 9 0 → 0 ≤ F 6 0 ∧ F 6 0 < F 8 0) ∧ (1 < F 9 0 → 0 ≤ F 6 1 ∧ F 6 1 < F 8 0) ∧ (2 < F 9 0 → 0 ≤ F 6 2 ∧ F 6 2 < F 8 0))
def stF (F : mem) : Int := cdv (F 6) (F 7)
/-- all are down in a state -/
def dn (F : mem) (c : Int) : Prop := (0 < F 9 0 → c % 5 = F 8 0 - 1) ∧ (1 < F 9 0 → c / 5 % 5 = F 8 0 - 1) ∧ (2 < F 9 0 → c / 25 % 5 = F 8 0 - 1)
theorem dn_iff {F : mem} {c : Int} {w : Int → Int} (h : w 0 = c % 5 ∧ w 1 = c / 5 % 5 ∧ w 2 = c / 25 % 5) : ((0 < F 9 0 → w 0 = F 8 0 - 1) ∧ (1 < F 9 0 → w 1 = F 8 0 - 1) ∧ (2 < F 9 0 → w 2 = F 8 0 - 1)) ↔ dn F c := by
  unfold dn
  rw [h.1, h.2.1, h.2.2]
theorem dc_dig (c : Int) (w : Int → Int) : dcw c w 0 = c % 5 ∧ dcw c w 1 = c / 5 % 5 ∧ dcw c w 2 = c / 25 % 5 := ⟨dcw_0 c w, dcw_1 c w, dcw_2 c w⟩
theorem cdv_dig3 {w q : Int → Int} (h : wfS w q) : w 0 = cdv w q % 5 ∧ w 1 = cdv w q / 5 % 5 ∧ w 2 = cdv w q / 25 % 5 := by
  obtain ⟨-, a, b, c, -⟩ := cdv_dig h.1 h.2
  exact ⟨a.symm, b.symm, c.symm⟩
-- ===== the soonest =====
/-- z is the least label of a state that is D; -4: none -/
def soonP (D : Int → Prop) (lab : Int → Int) (z : Int) : Prop :=
  (z = -4 ∧ ∀ c, inSt c → lab c ≠ FARc → ¬ D c) ∨ (∃ c, inSt c ∧ lab c ≠ FARc ∧ D c ∧ lab c = z ∧ ∀ d, inSt d → lab d ≠ FARc → D d → z ≤ lab d)
theorem soonP.uniq {D : Int → Prop} {lab lab' : Int → Int} {z z' : Int} (h : soonP D lab z) (h' : soonP D lab' z') (he : ∀ c, inSt c → lab c = lab' c) : z = z' := by
  rcases h with ⟨a, b⟩ | ⟨c, c1, c2, c3, c4, c5⟩ <;> rcases h' with ⟨a', b'⟩ | ⟨d, d1, d2, d3, d4, d5⟩
  · rw [a, a']
  · exact absurd d3 (b d d1 (by rw [he d d1]; exact d2))
  · exact absurd c3 (b' c c1 (by rw [← he c c1]; exact c2))
  · have h1 := c5 d d1 (by rw [he d d1]; exact d2) d3
    have h2 := d5 c c1 (by rw [← he c c1]; exact c2) c3
    rw [he d d1] at h1
    rw [← he c c1] at h2
    omega
def IsSoon (F : mem) (s z : Int) : Prop := ∃ (lab met : Int → Int) (n : Int), Sought (EF F) s lab met n ∧ soonP (dn F) lab z
theorem IsSoon.uniq {F : mem} {s z z' : Int} (hW : wfF F) (h : IsSoon F s z) (h' : IsSoon F s z') : z = z' := by
  obtain ⟨lab, met, n, a, b⟩ := h
  obtain ⟨lab', met', n', a', b'⟩ := h'
  exact b.uniq b' (fun c hc => a.lab_eq a' (okE_F hW) hc)
/-- over the list of what was met -/
theorem soonP.of {E : edge} {D : Int → Prop} {s n z : Int} {lab met : Int → Int} (hM : Mt E s lab met n) (h : (z = -4 ∧ ∀ k, 0 ≤ k → k < n → ¬ D (met k)) ∨ (∃ k, 0 ≤ k ∧ k < n ∧ D (met k) ∧ lab (met k) = z ∧ ∀ j, 0 ≤ j → j < n → D (met j) → z ≤ lab (met j))) : soonP D lab z := by
  rcases h with ⟨a, b⟩ | ⟨k, k1, k2, k3, k4, k5⟩
  · refine .inl ⟨a, fun c hc hl hd => ?_⟩
    obtain ⟨i, i1, i2, i3⟩ := hM.ms c hc hl
    exact b i i1 i2 (by rw [i3]; exact hd)
  · refine .inr ⟨met k, (hM.mt k k1 k2).1, (hM.mt k k1 k2).2, k3, k4, fun d hd hl hD => ?_⟩
    obtain ⟨i, i1, i2, i3⟩ := hM.ms d hd hl
    have := k5 i i1 i2 (by rw [i3]; exact hD)
    rw [i3] at this
    exact this
def soonI (D : Int → Prop) (lab met : Int → Int) (k b : Int) : Prop :=
  (b = 1000000000 ∧ ∀ i, 0 ≤ i → i < k → ¬ D (met i)) ∨ (∃ i, 0 ≤ i ∧ i < k ∧ D (met i) ∧ lab (met i) = b ∧ b < 1000000000 ∧ ∀ j, 0 ≤ j → j < k → D (met j) → b ≤ lab (met j))
theorem soonI_0 (D : Int → Prop) (lab met : Int → Int) : soonI D lab met 0 1000000000 := .inl ⟨rfl, fun i a b => by omega⟩
theorem soonI_n {D : Int → Prop} {lab met : Int → Int} {k b : Int} (h : soonI D lab met k b) (hn : ¬ D (met k)) : soonI D lab met (k + 1) b := by
  rcases h with ⟨a, c⟩ | ⟨i, i0, i1, i2, i3, i4, i5⟩
  · refine .inl ⟨a, fun i h0 h1 => ?_⟩
    by_cases q : i = k
    · rw [q]; exact hn
    · exact c i h0 (by omega)
  · refine .inr ⟨i, i0, by omega, i2, i3, i4, fun j j0 j1 jd => ?_⟩
    by_cases q : j = k
    · rw [q] at jd; exact absurd jd hn
    · exact i5 j j0 (by omega) jd
theorem soonI_s {D : Int → Prop} {lab met : Int → Int} {k b : Int} (h : soonI D lab met k b) (hd : D (met k)) (hl : lab (met k) < FARc) (hk : 0 ≤ k) : soonI D lab met (k + 1) (lower b (lab (met k))) := by
  have hF : FARc = 1000000000 := rfl
  rcases h with ⟨a, c⟩ | ⟨i, i0, i1, i2, i3, i4, i5⟩
  · refine .inr ⟨k, hk, by omega, hd, by unfold lower; omega, by unfold lower; omega, fun j j0 j1 jd => ?_⟩
    by_cases q : j = k
    · rw [q]; unfold lower; omega
    · exact absurd jd (c j j0 (by omega))
  · by_cases z : lab (met k) < b
    · refine .inr ⟨k, hk, by omega, hd, by unfold lower; omega, by unfold lower; omega, fun j j0 j1 jd => ?_⟩
      by_cases q : j = k
      · rw [q]; unfold lower; omega
      · have := i5 j j0 (by omega) jd
        unfold lower; omega
    · refine .inr ⟨i, i0, by omega, i2, by unfold lower; omega, by unfold lower; omega, fun j j0 j1 jd => ?_⟩
      by_cases q : j = k
      · rw [q]; unfold lower; omega
      · have := i5 j j0 (by omega) jd
        unfold lower; omega
theorem soonI_e {E : edge} {D : Int → Prop} {s n k b : Int} {lab met : Int → Int} (hM : Mt E s lab met n) (h : soonI D lab met k b) (hk : n ≤ k) (hb : b = 1000000000) : soonP D lab (-4) := by
  refine soonP.of hM (.inl ⟨rfl, fun i i0 i1 => ?_⟩)
  rcases h with ⟨-, c⟩ | ⟨j, -, -, -, -, j4, -⟩
  · exact c i i0 (by omega)
  · omega
theorem soonI_z {E : edge} {D : Int → Prop} {s n k b : Int} {lab met : Int → Int} (hM : Mt E s lab met n) (h : soonI D lab met k b) (hk : k ≤ n) (hk2 : n ≤ k) (hb : ¬ b = 1000000000) : soonP D lab b := by
  rcases h with ⟨a, -⟩ | ⟨i, i0, i1, i2, i3, i4, i5⟩
  · exact absurd a hb
  · exact soonP.of hM (.inr ⟨i, i0, by omega, i2, i3, fun j j0 j1 jd => i5 j j0 (by omega) jd⟩)
-- ===== ropes that are left =====
def lf (F : mem) (c : Int) : Int := (if 0 < F 10 0 ∧ c / 125 % 6 = 5 then 1 else 0) + (if 1 < F 10 0 ∧ c / 750 % 6 = 5 then 1 else 0)
theorem lf_b (F : mem) (c : Int) : 0 ≤ lf F c ∧ lf F c ≤ 2 := by unfold lf; omega
theorem lf_rg {F : mem} {c z : Int} (h : z = lf F c) : rg z := by
  have := lf_b F c
  rw [h]
  exact ⟨by omega, by omega⟩
/-- the fewest (by f) of the D states with labels up to w, z of them, b the least label with so few -/
def fewP (D : Int → Prop) (f lab : Int → Int) (w z b : Int) : Prop :=
  (z = -4 ∧ ∀ c, inSt c → lab c ≠ FARc → lab c ≤ w → ¬ D c) ∨ (∃ c, inSt c ∧ lab c ≠ FARc ∧ lab c ≤ w ∧ D c ∧ f c = z ∧ lab c = b ∧ ∀ d, inSt d → lab d ≠ FARc → lab d ≤ w → D d → z < f d ∨ (z = f d ∧ b ≤ lab d))
theorem fewP.uniq {D : Int → Prop} {f lab lab' : Int → Int} {w z b z' b' : Int} (h : fewP D f lab w z b) (h' : fewP D f lab' w z' b') (he : ∀ c, inSt c → lab c = lab' c) (hf : ∀ c, 0 ≤ f c) : z = z' ∧ (z = -4 ∨ b = b') := by
  rcases h with ⟨a, p⟩ | ⟨c, c1, c2, c3, c4, c5, c6, c7⟩ <;> rcases h' with ⟨a', p'⟩ | ⟨d, d1, d2, d3, d4, d5, d6, d7⟩
  · exact ⟨by omega, .inl a⟩
  · exact absurd d4 (p d d1 (by rw [he d d1]; exact d2) (by rw [he d d1]; exact d3))
  · exact absurd c4 (p' c c1 (by rw [← he c c1]; exact c2) (by rw [← he c c1]; exact c3))
  · have h1 := c7 d d1 (by rw [he d d1]; exact d2) (by rw [he d d1]; exact d3) d4
    have h2 := d7 c c1 (by rw [← he c c1]; exact c2) (by rw [← he c c1]; exact c3) c4
    rw [he d d1] at h1
    rw [← he c c1] at h2
    omega
def IsFew (F : mem) (s w z b : Int) : Prop := ∃ (lab met : Int → Int) (n : Int), Sought (EF F) s lab met n ∧ fewP (dn F) (lf F) lab w z b
theorem IsFew.uniq {F : mem} {s w z b z' b' : Int} (hW : wfF F) (h : IsFew F s w z b) (h' : IsFew F s w z' b') : z = z' ∧ (z = -4 ∨ b = b') := by
  obtain ⟨lab, met, n, p, q⟩ := h
  obtain ⟨lab', met', n', p', q'⟩ := h'
  exact q.uniq q' (fun c hc => p.lab_eq p' (okE_F hW) hc) (fun c => (lf_b F c).1)
def fewI (D : Int → Prop) (f lab met : Int → Int) (w k z b : Int) : Prop :=
  (z = -4 ∧ ∀ i, 0 ≤ i → i < k → ¬ (lab (met i) ≤ w ∧ D (met i))) ∨ (∃ i, 0 ≤ i ∧ i < k ∧ lab (met i) ≤ w ∧ D (met i) ∧ f (met i) = z ∧ lab (met i) = b ∧ ∀ j, 0 ≤ j → j < k → lab (met j) ≤ w → D (met j) → z < f (met j) ∨ (z = f (met j) ∧ b ≤ lab (met j)))
theorem fewI_0 (D : Int → Prop) (f lab met : Int → Int) (w b : Int) : fewI D f lab met w 0 (-4) b := .inl ⟨rfl, fun i a b => by omega⟩
theorem fewI_skip {D : Int → Prop} {f lab met : Int → Int} {w k z b : Int} (h : fewI D f lab met w k z b) (hn : ¬ (lab (met k) ≤ w ∧ D (met k))) : fewI D f lab met w (k + 1) z b := by
  rcases h with ⟨a, c⟩ | ⟨i, i0, i1, i2, i3, i4, i5, i6⟩
  · refine .inl ⟨a, fun i h0 h1 => ?_⟩
    by_cases q : i = k
    · rw [q]; exact hn
    · exact c i h0 (by omega)
  · refine .inr ⟨i, i0, by omega, i2, i3, i4, i5, fun j j0 j1 jl jd => ?_⟩
    by_cases q : j = k
    · rw [q] at jd jl; exact absurd ⟨jl, jd⟩ hn
    · exact i6 j j0 (by omega) jl jd
theorem fewI_keep {D : Int → Prop} {f lab met : Int → Int} {w k z b : Int} (h : fewI D f lab met w k z b) (hz : ¬ z = -4) (hn : z < f (met k) ∨ (z = f (met k) ∧ b ≤ lab (met k))) : fewI D f lab met w (k + 1) z b := by
  rcases h with ⟨a, c⟩ | ⟨i, i0, i1, i2, i3, i4, i5, i6⟩
  · exact absurd a hz
  · refine .inr ⟨i, i0, by omega, i2, i3, i4, i5, fun j j0 j1 jl jd => ?_⟩
    by_cases q : j = k
    · rw [q]; exact hn
    · exact i6 j j0 (by omega) jl jd
theorem fewI_new {D : Int → Prop} {f lab met : Int → Int} {w k z b z' : Int} (h : fewI D f lab met w k z b) (hl : lab (met k) ≤ w) (hd : D (met k)) (hk : 0 ≤ k) (he : z' = f (met k)) (hn : z = -4 ∨ f (met k) < z ∨ (f (met k) = z ∧ lab (met k) < b)) (hf : ∀ c, 0 ≤ f c) : fewI D f lab met w (k + 1) z' (lab (met k)) := by
  subst he
  refine .inr ⟨k, hk, by omega, hl, hd, rfl, rfl, fun j j0 j1 jl jd => ?_⟩
  by_cases q : j = k
  · rw [q]; exact .inr ⟨rfl, Int.le_refl _⟩
  · rcases h with ⟨a, c⟩ | ⟨i, i0, i1, i2, i3, i4, i5, i6⟩
    · exact absurd ⟨jl, jd⟩ (c j j0 (by omega))
    · have := i6 j j0 (by omega) jl jd
      have := hf (met i)
      omega
theorem fewI_e {E : edge} {D : Int → Prop} {f lab met : Int → Int} {s n w k z b : Int} (hM : Mt E s lab met n) (h : fewI D f lab met w k z b) (hk : n ≤ k) (hk2 : k ≤ n) : fewP D f lab w z b := by
  rcases h with ⟨a, c⟩ | ⟨i, i0, i1, i2, i3, i4, i5, i6⟩
  · refine .inl ⟨a, fun x hx hl hw hd => ?_⟩
    obtain ⟨j, j0, j1, j2⟩ := hM.ms x hx hl
    exact c j j0 (by omega) (by rw [j2]; exact ⟨hw, hd⟩)
  · refine .inr ⟨met i, (hM.mt i i0 (by omega)).1, (hM.mt i i0 (by omega)).2, i2, i3, i4, i5, fun x hx hl hw hd => ?_⟩
    obtain ⟨j, j0, j1, j2⟩ := hM.ms x hx hl
    have := i6 j j0 (by omega) (by rw [j2]; exact hw) (by rw [j2]; exact hd)
    rw [j2] at this
    exact this
theorem okF_sort {F : mem} {p t : Int} (h : okF F) (ht : 0 ≤ t ∧ t ≤ 2) : okF (up F 4 (ug (F 4) p t)) :=
  ⟨⟨h.1.1, h.1.2.1, h.1.2.2.1, h.1.2.2.2.1, ug_b ht h.1.2.2.2.2.1, h.1.2.2.2.2.2⟩, h.2⟩
-- ===== lists from a state; what holds of the moves gone through =====
theorem LI_dc {F : mem} {c : Int} {w q : Int → Int} {V g0 g1 : Int → Int} {n p : Int} (h : LI (lgl F (dcw c w) (dcq c q)) V g0 g1 n p) : LI (leg F c) V g0 g1 n p := by
  rw [lgl_dc] at h
  exact h
def seenI (L Q : Int → Prop) (k : Int) : Prop := ∀ m, L m → cn L m < k → Q m
theorem seenI_0 {L : Int → Prop} (Q : Int → Prop) (h : ∀ m, L m → 0 ≤ m) : seenI L Q 0 := fun m h1 h2 => by
  have := cn_nn (P := L) (m := m) (h m h1)
  omega
theorem seenI_s {L Q : Int → Prop} {k m : Int} (h : seenI L Q k) (h0 : ∀ m, L m → 0 ≤ m) (hm : L m) (hk : cn L m = k) (hq : Q m) : seenI L Q (k + 1) := fun x a b => by
  rcases Int.lt_or_le (cn L x) k with q | q
  · exact h x a q
  · have e : x = m := cn_inj (h0 x a) (h0 m hm) a hm (by omega)
    rw [e]; exact hq
theorem seenI_all {L Q : Int → Prop} {V g0 g1 : Int → Int} {n k : Int} (h : seenI L Q k) (hL : LI L V g0 g1 n 70000) (hb : ∀ m, L m → 0 ≤ m ∧ m < 70000) (hk : n ≤ k) : ∀ m, L m → Q m := fun m h1 => by
  refine h m h1 ?_
  have := cn_lt (P := L) (a := m) (b := 70000) (hb m h1).1 (hb m h1).2 h1
  have := hL.1
  omega
theorem leg_b {F : mem} {c : Int} : ∀ m, leg F c m → 0 ≤ m ∧ m < 70000 := fun m h => ⟨h.1.1, by have := h.1.2.1; omega⟩
theorem leg_n {F : mem} {c : Int} : ∀ m, leg F c m → 0 ≤ m := fun m h => h.1.1
theorem p2_b3 {n : Int} (h0 : 0 ≤ n) (h3 : n ≤ 3) : 1 ≤ p2 n ∧ p2 n ≤ 8 := by unfold p2; omega
theorem p2_rg {n : Int} (h0 : 0 ≤ n) (h3 : n ≤ 3) : rg (p2 n) := by
  have := p2_b3 h0 h3
  exact ⟨by omega, by omega⟩
theorem rgi2 {a : Int} (h0 : -1 ≤ a) (h1 : a ≤ 2) : rg a := ⟨by omega, by omega⟩
-- ===== ways down =====
/-- all but one are on the ground, that one is not -/
def alone (F : mem) (a c : Int) : Prop := (0 < F 9 0 → (c % 5 = F 8 0 - 1 ↔ ¬ a = 0)) ∧ (1 < F 9 0 → (c / 5 % 5 = F 8 0 - 1 ↔ ¬ a = 1)) ∧ (2 < F 9 0 → (c / 25 % 5 = F 8 0 - 1 ↔ ¬ a = 2))
def setOk (a m : Int) : Prop := a = -1 ∨ m / 1000 % 10 = 0 ∨ m / 1000 % 10 = p2 a
def gateA (F : mem) (a c : Int) : Prop := a = -1 ∨ alone F a c
def stepA (F : mem) (a c d : Int) : Prop := ∃ m, leg F c m ∧ setOk a m ∧ d = nx c m
/-- a way leads down (a = -1), by moves of a alone, the others being down -/
def LeadA (F : mem) (a c : Int) : Prop := ∀ P : Int → Prop, (∀ c, dn F c → P c) → (∀ c d, gateA F a c → stepA F a c d → P d → P c) → P c
theorem LeadA.dn {F : mem} {a c : Int} (h : dn F c) : LeadA F a c := fun _ h0 _ => h0 c h
theorem LeadA.step {F : mem} {a c d : Int} (hg : gateA F a c) (hs : stepA F a c d) (h : LeadA F a d) : LeadA F a c := fun P h0 h1 => h1 c d hg hs (h P h0 h1)
theorem Sought.next {F : mem} {s n c m : Int} {lab met : Int → Int} (h : Sought (EF F) s lab met n) (hW : wfF F) (hc : inSt c) (hl : lab c ≠ FARc) (hm : leg F c m) : inSt (nx c m) ∧ lab (nx c m) ≠ FARc := by
  have := h.least (okE_F hW) (Walk.step (h.walk hc hl) ⟨m, hm, rfl, rfl⟩)
  exact ⟨this.1, this.2.1⟩
theorem sm_le {g : Int → Int} (h : ∀ c, inSt c → g c = 0 ∨ g c = 1) : 0 ≤ smN g 4500 ∧ smN g 4500 ≤ 4500 := by
  refine ⟨smN_nn (fun i a b => by have := h i ⟨a, b⟩; omega), ?_⟩
  have : ∀ n : Nat, n ≤ 4500 → smN g n ≤ n := fun n => by
    induction n with
    | zero => intro _; exact Int.le_refl 0
    | succ n ih =>
      intro hn
      have h1 := ih (by omega)
      have h2 := h n ⟨by omega, by omega⟩
      simp only [smN]
      omega
  exact this 4500 (Nat.le_refl _)
theorem ug_01 {g : Int → Int} {k : Int} (h : ∀ c, inSt c → g c = 0 ∨ g c = 1) : ∀ c, inSt c → ug g k 1 c = 0 ∨ ug g k 1 c = 1 := fun c hc => by
  by_cases q : c = k
  · right; rw [q, ug_s]
  · rw [ug_n q]; exact h c hc
theorem ug_00 {g : Int → Int} {k : Int} (h : ∀ c, inSt c → g c = 0 ∨ g c = 1) : ∀ c, inSt c → ug g k 0 c = 0 ∨ ug g k 0 c = 1 := fun c hc => by
  by_cases q : c = k
  · left; rw [q, ug_s]
  · rw [ug_n q]; exact h c hc
/-- while all met states are set: those below k by D -/
def fgI (D : Int → Prop) (met : Int → Int) (k : Int) (g : Int → Int) : Prop := ∀ i, 0 ≤ i → i < k → (g (met i) = 1 ∧ D (met i)) ∨ (g (met i) = 0 ∧ ¬ D (met i))
theorem fgI_0 (D : Int → Prop) (met g : Int → Int) : fgI D met 0 g := fun i a b => by omega
theorem fgI_s {D : Int → Prop} {met g : Int → Int} {k : Int} (h : fgI D met k g) (hd : D (met k)) : fgI D met (k + 1) (ug g (met k) 1) := fun i a b => by
  by_cases z : met i = met k
  · rw [z, ug_s]; exact .inl ⟨rfl, hd⟩
  · rw [ug_n z]
    exact h i a (by rcases Int.lt_or_le i k with y | y; exact y; exact absurd (by rw [show i = k by omega]) z)
theorem fgI_n {D : Int → Prop} {met g : Int → Int} {k : Int} (h : fgI D met k g) (hd : ¬ D (met k)) : fgI D met (k + 1) (ug g (met k) 0) := fun i a b => by
  by_cases z : met i = met k
  · rw [z, ug_s]; exact .inr ⟨rfl, hd⟩
  · rw [ug_n z]
    exact h i a (by rcases Int.lt_or_le i k with y | y; exact y; exact absurd (by rw [show i = k by omega]) z)
/-- what is met alone -/
def msk (lab g : Int → Int) : Int → Int := fun c => if lab c = FARc then 0 else g c
theorem msk_ug {lab g : Int → Int} {c v : Int} (h : lab c ≠ FARc) : msk lab (ug g c v) = ug (msk lab g) c v := by
  funext x
  by_cases z : x = c
  · rw [z, ug_s]; unfold msk; rw [if_neg h, ug_s]
  · rw [ug_n z]; unfold msk; rw [ug_n z]
theorem msk_at {lab g : Int → Int} {c : Int} (h : lab c ≠ FARc) : msk lab g c = g c := if_neg h
theorem msk_01 {lab g : Int → Int} (h : ∀ c, inSt c → lab c ≠ FARc → g c = 0 ∨ g c = 1) : ∀ c, inSt c → msk lab g c = 0 ∨ msk lab g c = 1 := fun c hc => by
  by_cases z : lab c = FARc
  · left; exact if_pos z
  · rw [msk_at z]; exact h c hc z
theorem ug_m1 {lab g : Int → Int} {k : Int} (h : ∀ c, inSt c → lab c ≠ FARc → g c = 0 ∨ g c = 1) : ∀ c, inSt c → lab c ≠ FARc → ug g k 1 c = 0 ∨ ug g k 1 c = 1 := fun c hc hl => by
  by_cases q : c = k
  · right; rw [q, ug_s]
  · rw [ug_n q]; exact h c hc hl
/-- one more is set -/
theorem msk_more {lab g : Int → Int} {c : Int} (hc : inSt c) (hl : lab c ≠ FARc) (h0 : g c = 0) : smN (msk lab (ug g c 1)) 4500 = smN (msk lab g) 4500 + 1 := by
  have := smN_ug (msk lab g) c 1 hc.1 4500
  rw [if_pos (show c < ((4500 : Nat) : Int) from hc.2), msk_at hl, h0] at this
  rw [msk_ug hl]
  omega
def fgP (F : mem) (a : Int) (lab g : Int → Int) : Prop := (∀ c, inSt c → lab c ≠ FARc → dn F c → g c = 1) ∧ (∀ c, inSt c → lab c ≠ FARc → g c = 1 → LeadA F a c)
theorem fgI_e {E : edge} {F : mem} {a s n k : Int} {lab met g : Int → Int} (hS : Sought E s lab met n) (h : fgI (dn F) met k g) (hk : n ≤ k) : (∀ c, inSt c → lab c ≠ FARc → g c = 0 ∨ g c = 1) ∧ fgP F a lab g := by
  refine ⟨fun c hc hl => ?_, fun c hc hl hd => ?_, fun c hc hl q => ?_⟩
  · obtain ⟨i, a, b, e⟩ := hS.ms c hc hl
    have := h i a (by omega)
    rw [e] at this
    omega
  · obtain ⟨i, a, b, e⟩ := hS.ms c hc hl
    have := h i a (by omega)
    rw [e] at this
    rcases this with ⟨q, -⟩ | ⟨-, q⟩
    · exact q
    · exact absurd hd q
  · obtain ⟨i, a, b, e⟩ := hS.ms c hc hl
    have := h i a (by omega)
    rw [e] at this
    rcases this with ⟨-, z⟩ | ⟨z, -⟩
    · exact .dn z
    · omega
theorem fgP_s {F : mem} {a s n c : Int} {lab met g : Int → Int} (h : fgP F a lab g) (hS : Sought (EF F) s lab met n) (hW : wfF F) (hc : inSt c) (hl : lab c ≠ FARc) (hg : gateA F a c) (he : ∃ d, stepA F a c d ∧ g d = 1) : fgP F a lab (ug g c 1) := by
  refine ⟨fun x hx hl2 hd => ?_, fun x hx hl2 q => ?_⟩
  · by_cases z : x = c
    · rw [z, ug_s]
    · rw [ug_n z]; exact h.1 x hx hl2 hd
  · by_cases z : x = c
    · obtain ⟨d, hs, hd⟩ := he
      obtain ⟨m, h1, h2, h3⟩ := id hs
      have := hS.next hW hc hl h1
      rw [← h3] at this
      rw [z]
      exact .step hg hs (h.2 d this.1 this.2 hd)
    · rw [ug_n z] at q; exact h.2 x hx hl2 q
/-- nothing more can be set above k -/
def stab (F : mem) (a : Int) (met g : Int → Int) (k n : Int) : Prop := ∀ i, k < i → i < n → g (met i) = 1 ∨ ¬ gateA F a (met i) ∨ ¬ ∃ d, stepA F a (met i) d ∧ g d = 1
theorem stab_0 (F : mem) (a : Int) (met g : Int → Int) (n : Int) : stab F a met g (n - 1) n := fun i a b => by omega
theorem stab_s {F : mem} {a k n : Int} {met g : Int → Int} (h : stab F a met g k n) (hk : g (met k) = 1 ∨ ¬ gateA F a (met k) ∨ ¬ ∃ d, stepA F a (met k) d ∧ g d = 1) : stab F a met g (k + (-1)) n := fun i a b => by
  by_cases z : i = k
  · rw [z]; exact hk
  · exact h i (by omega) b
theorem fgP_e {F : mem} {a s n c : Int} {lab met g : Int → Int} (hS : Sought (EF F) s lab met n) (hW : wfF F) (h : fgP F a lab g) (hs : stab F a met g (-1) n) (hc : inSt c) (hl : lab c ≠ FARc) : g c = 1 ↔ LeadA F a c := by
  refine ⟨h.2 c hc hl, fun hL => ?_⟩
  refine hL (fun c => inSt c → lab c ≠ FARc → g c = 1) (fun c hd hc hl => h.1 c hc hl hd) (fun c d hg hst ih hc hl => ?_) hc hl
  obtain ⟨m, h1, h2, h3⟩ := id hst
  have hn := hS.next hW hc hl h1
  rw [← h3] at hn
  obtain ⟨i, i0, i1, i2⟩ := hS.ms c hc hl
  rcases hs i (by omega) i1 with q | q | q
  · rw [i2] at q; exact q
  · rw [i2] at q; exact absurd hg q
  · rw [i2] at q; exact absurd ⟨d, hst, ih hn.1 hn.2⟩ q
-- ===== counting over the list of what was met =====
theorem cn_met {E : edge} {s n : Int} {lab met : Int → Int} (h : Mt E s lab met n) (B : Int → Prop) : cn (fun i => B (met i)) n = cn (fun c => lab c ≠ FARc ∧ B c) 4500 := by
  have key : ∀ k : Nat, (k : Int) ≤ n → cn (fun i => B (met i)) k = cn (fun c => (∃ i, 0 ≤ i ∧ i < (k : Int) ∧ met i = c) ∧ B c) 4500 := fun k => by
    induction k with
    | zero =>
      intro _
      rw [cn_zero (P := fun c => (∃ i, 0 ≤ i ∧ i < ((0 : Nat) : Int) ∧ met i = c) ∧ B c) (fun c _ _ q => by obtain ⟨⟨i, a, b, -⟩, -⟩ := q; omega) (by decide)]
      rfl
    | succ k ih =>
      intro hk
      have hk1 : ((k + 1 : Nat) : Int) = (k : Int) + 1 := by omega
      have ih := ih (by omega)
      have hm := h.mt k (by omega) (by omega)
      have hne : ∀ i, 0 ≤ i → i < (k : Int) → met i ≠ met k := fun i a b q => by
        have := h.mi i k a (by omega) (by omega) (by omega) q
        omega
      by_cases hB : B (met k)
      · rw [hk1, cn_s (P := fun i => B (met i)) (by omega) hB, ih]
        symm
        refine cn_more (k := met k) hm.1.1 hm.1.2 (fun q => ?_) ⟨⟨k, by omega, by omega, rfl⟩, hB⟩ (fun i hi => ?_)
        · obtain ⟨⟨i, a, b, e⟩, -⟩ := q
          exact hne i a b e
        · refine ⟨fun ⟨⟨j, a, b, e⟩, q⟩ => ⟨⟨j, a, by omega, e⟩, q⟩, fun ⟨⟨j, a, b, e⟩, q⟩ => ⟨⟨j, a, ?_, e⟩, q⟩⟩
          rcases Int.lt_or_le j k with y | y
          · exact y
          · rw [show j = (k : Int) by omega] at e; exact absurd e.symm hi
      · rw [hk1, cn_n (P := fun i => B (met i)) (by omega) hB, ih]
        refine cn_congr (fun c _ _ => ⟨fun ⟨⟨j, a, b, e⟩, q⟩ => ⟨⟨j, a, by omega, e⟩, q⟩, fun ⟨⟨j, a, b, e⟩, q⟩ => ⟨⟨j, a, ?_, e⟩, q⟩⟩)
        rcases Int.lt_or_le j k with y | y
        · exact y
        · rw [show j = (k : Int) by omega] at e; rw [← e] at q; exact absurd q hB
  have h1 := h.n1
  obtain ⟨k, rfl⟩ : ∃ k : Nat, n = k := ⟨n.toNat, by omega⟩
  rw [key k (Int.le_refl _)]
  refine cn_congr (fun c a b => ⟨fun ⟨⟨i, i0, i1, e⟩, q⟩ => ⟨by rw [← e]; exact (h.mt i i0 i1).2, q⟩, fun ⟨q, r⟩ => ⟨h.ms c ⟨a, b⟩ q, r⟩⟩)
def IsTraps (F : mem) (s z : Int) : Prop := ∃ (lab met : Int → Int) (n : Int), Sought (EF F) s lab met n ∧ z = cn (fun i => ¬ LeadA F (-1) (met i)) n
theorem IsTraps.uniq {F : mem} {s z z' : Int} (hW : wfF F) (h : IsTraps F s z) (h' : IsTraps F s z') : z = z' := by
  obtain ⟨lab, met, n, a, b⟩ := h
  obtain ⟨lab', met', n', a', b'⟩ := h'
  rw [b, b', cn_met a.toMet (fun c => ¬ LeadA F (-1) c), cn_met a'.toMet (fun c => ¬ LeadA F (-1) c)]
  exact cn_congr (fun c x y => by rw [a.lab_eq a' (okE_F hW) ⟨x, y⟩])
def IsStates (F : mem) (s z : Int) : Prop := ∃ lab met : Int → Int, Sought (EF F) s lab met z
theorem IsStates.uniq {F : mem} {s z z' : Int} (hW : wfF F) (h : IsStates F s z) (h' : IsStates F s z') : z = z' := by
  obtain ⟨lab, met, a⟩ := h
  obtain ⟨lab', met', a'⟩ := h'
  exact a.n_eq a' (okE_F hW)
-- ===== the last one =====
def bit (i z : Int) : Int := if i = 0 then z % 2 else if i = 1 then z / 2 % 2 else z / 4 % 2
def lastR (B : Int → Prop) (p z : Int) : Prop := 0 ≤ z ∧ z < 8 ∧ ∀ i, 0 ≤ i → i ≤ 2 → (bit i z = 1 ↔ i < p ∧ B i)
def lastK (B : Int → Prop) (C : Prop) (p z : Int) : Prop := 0 ≤ z ∧ z < 8 ∧ ∀ i, 0 ≤ i → i ≤ 2 → (bit i z = 1 ↔ (i < p ∧ B i) ∨ (i = p ∧ C))
def orv (s p : Int) : Int := if bit p s = 1 then s else s + p2 p
theorem lastR_0 (B : Int → Prop) : lastR B 0 0 := ⟨by decide, by decide, fun i a b => ⟨fun q => by unfold bit at q; omega, fun q => by omega⟩⟩
theorem lastK_0 {B : Int → Prop} {C : Prop} {p z : Int} (h : lastR B p z) (hC : ¬ C) : lastK B C p z := ⟨h.1, h.2.1, fun i a b => ⟨fun q => .inl ((h.2.2 i a b).mp q), fun q => by
  rcases q with q | q
  · exact (h.2.2 i a b).mpr q
  · exact absurd q.2 hC⟩⟩
theorem lastK_e {B : Int → Prop} {C : Prop} {p z : Int} (h : lastK B C p z) (hC : C ↔ B p) : lastR B (p + 1) z := ⟨h.1, h.2.1, fun i a b => by
  rw [h.2.2 i a b]
  constructor
  · rintro (⟨q, r⟩ | ⟨q, r⟩)
    · exact ⟨by omega, r⟩
    · rw [q]; exact ⟨by omega, hC.mp r⟩
  · rintro ⟨q, r⟩
    by_cases y : i = p
    · right; rw [y] at r; exact ⟨y, hC.mpr r⟩
    · left; exact ⟨by omega, r⟩⟩
theorem lastK_c {B : Int → Prop} {C C' : Prop} {p z : Int} (h : lastK B C p z) (hC : C ↔ C') : lastK B C' p z := by
  unfold lastK at h ⊢
  rw [← hC]
  exact h
theorem orv_b {s p : Int} (h0 : 0 ≤ s) (h1 : s < 8) (p0 : 0 ≤ p) (p1 : p ≤ 2) : 0 ≤ orv s p ∧ orv s p < 8 ∧ ∀ i, 0 ≤ i → i ≤ 2 → (bit i (orv s p) = 1 ↔ bit i s = 1 ∨ i = p) := by
  rcases (show s = 0 ∨ s = 1 ∨ s = 2 ∨ s = 3 ∨ s = 4 ∨ s = 5 ∨ s = 6 ∨ s = 7 by omega) with rfl | rfl | rfl | rfl | rfl | rfl | rfl | rfl <;>
  rcases (show p = 0 ∨ p = 1 ∨ p = 2 by omega) with rfl | rfl | rfl <;>
  exact ⟨by decide, by decide, fun i a b => by rcases (show i = 0 ∨ i = 1 ∨ i = 2 by omega) with rfl | rfl | rfl <;> decide⟩
theorem lastK_or {B : Int → Prop} {C : Prop} {p z : Int} (h : lastK B C p z) (p0 : 0 ≤ p) (p1 : p ≤ 2) : lastK B True p (orv z p) := by
  obtain ⟨a, b, c⟩ := orv_b h.1 h.2.1 p0 p1
  refine ⟨a, b, fun i i0 i1 => ?_⟩
  rw [c i i0 i1, h.2.2 i i0 i1]
  constructor
  · rintro ((q | q) | q)
    · exact .inl q
    · exact .inr ⟨q.1, trivial⟩
    · exact .inr ⟨q, trivial⟩
  · rintro (q | q)
    · exact .inl (.inl q)
    · exact .inr q.1
theorem ii_or0 {s : Int} (h0 : 0 ≤ s) (h1 : s < 8) : ii s ||| ii 0 = ii s := by
  rcases (show s = 0 ∨ s = 1 ∨ s = 2 ∨ s = 3 ∨ s = 4 ∨ s = 5 ∨ s = 6 ∨ s = 7 by omega) with rfl | rfl | rfl | rfl | rfl | rfl | rfl | rfl <;> decide
theorem ii_orp {s p : Int} (h0 : 0 ≤ s) (h1 : s < 8) (p0 : 0 ≤ p) (p1 : p ≤ 2) : ii s ||| ii (p2 p) = ii (orv s p) := by
  rcases (show s = 0 ∨ s = 1 ∨ s = 2 ∨ s = 3 ∨ s = 4 ∨ s = 5 ∨ s = 6 ∨ s = 7 by omega) with rfl | rfl | rfl | rfl | rfl | rfl | rfl | rfl <;>
  rcases (show p = 0 ∨ p = 1 ∨ p = 2 by omega) with rfl | rfl | rfl <;> decide
theorem lastR.uniq {B B' : Int → Prop} {p z z' : Int} (h : lastR B p z) (h' : lastR B' p z') (he : ∀ i, B i ↔ B' i) : z = z' := by
  have e : ∀ i, 0 ≤ i → i ≤ 2 → (bit i z = 1 ↔ bit i z' = 1) := fun i a b => by rw [h.2.2 i a b, h'.2.2 i a b, he i]
  have e0 := e 0 (by decide) (by decide)
  have e1 := e 1 (by decide) (by decide)
  have e2 := e 2 (by decide) (by decide)
  have a := h.1
  have b := h.2.1
  have c := h'.1
  have d := h'.2.1
  unfold bit at e0 e1 e2
  rw [if_pos rfl, if_pos rfl] at e0
  rw [if_neg (by decide), if_pos rfl, if_neg (by decide), if_pos rfl] at e1
  rw [if_neg (by decide), if_neg (by decide), if_neg (by decide), if_neg (by decide)] at e2
  omega
def lastB (F : mem) (lab : Int → Int) (p : Int) : Prop := ∃ c, inSt c ∧ lab c ≠ FARc ∧ alone F p c ∧ LeadA F p c
def IsLast (F : mem) (s z : Int) : Prop := ∃ (lab met : Int → Int) (n : Int), Sought (EF F) s lab met n ∧ lastR (lastB F lab) (F 9 0) z
theorem IsLast.uniq {F : mem} {s z z' : Int} (hW : wfF F) (h : IsLast F s z) (h' : IsLast F s z') : z = z' := by
  obtain ⟨lab, met, n, a, b⟩ := h
  obtain ⟨lab', met', n', a', b'⟩ := h'
  refine b.uniq b' (fun p => ⟨fun ⟨c, c1, c2, c3⟩ => ⟨c, c1, ?_, c3⟩, fun ⟨c, c1, c2, c3⟩ => ⟨c, c1, ?_, c3⟩⟩)
  · rw [← a.lab_eq a' (okE_F hW) c1]; exact c2
  · rw [a.lab_eq a' (okE_F hW) c1]; exact c2
-- ===== all that can be reached, knots caught or not =====
def E0 (F : mem) : edge := fun c v d => v = 0 ∧ ∃ m, leg F c m ∧ (d = nx c m ∨ (m / 10000 = 3 ∧ d = nxc c m))
theorem E0.stp {F : mem} {c m : Int} (h : leg F c m) : E0 F c 0 (nx c m) := ⟨rfl, m, h, .inl rfl⟩
theorem E0.stc {F : mem} {c m : Int} (h : leg F c m) (h3 : m / 10000 = 3) : E0 F c 0 (nxc c m) := ⟨rfl, m, h, .inr ⟨h3, rfl⟩⟩
theorem walk0 {F : mem} {s c v : Int} (h : Walk (E0 F) s c v) : v = 0 := h (fun _ v => v = 0) rfl (fun c v d w a b => by rw [a, b.1]; rfl)
theorem Mt.lab0 {F : mem} {s n c : Int} {lab met : Int → Int} (h : Mt (E0 F) s lab met n) (hc : inSt c) (hl : lab c ≠ FARc) : lab c = 0 := by
  rcases h.lb c hc with e | ⟨-, -, e⟩
  · exact absurd e hl
  · exact walk0 e
theorem Mt.okc0 {F : mem} {s n c : Int} {lab met : Int → Int} (h : Mt (E0 F) s lab met n) (hs : okC F s) (hc : inSt c) (hl : lab c ≠ FARc) : okC F c := by
  rcases h.lb c hc with e | ⟨-, -, e⟩
  · exact absurd e hl
  · exact e (fun c _ => okC F c) hs (fun c v d w a ⟨_, m, h1, h3⟩ => by
      rcases h3 with h3 | ⟨-, h3⟩ <;> rw [h3]
      · exact okC_nx a h1
      · exact okC_nxc a h1)
theorem Mt.start (E : edge) {s : Int} (hs : inSt s) {lab0 met0 : Int → Int} (hl : ∀ c, inSt c → lab0 c = FARc) : Mt E s (ug lab0 s 0) (ug met0 0 s) 1 :=
  SK.toMet (SK.start E hs hl (qd0 := fun _ => 0) (que0 := fun _ => 0) (fun _ _ => rfl))
theorem Mt.add {F : mem} {s n c d : Int} {lab met : Int → Int} (h : Mt (E0 F) s lab met n) (hc : inSt c) (hl : lab c ≠ FARc) (he : E0 F c 0 d) (hd : inSt d) (hf : lab d = FARc) :
    Mt (E0 F) s (ug lab d 0) (if lab d = FARc then ug met n d else met) (if lab d = FARc then n + 1 else n) := by
  have h0 := h.lab0 hc hl
  have := h.relax hc hl he hd (by decide) (by decide) (by rw [h0, hf]; decide)
  rw [h0] at this
  exact this
theorem Sought.next0 {F : mem} {s n c d : Int} {lab met : Int → Int} (h : Sought (E0 F) s lab met n) (hc : inSt c) (hl : lab c ≠ FARc) (he : E0 F c 0 d) : inSt d ∧ lab d ≠ FARc := by
  have hd : inSt d := by
    obtain ⟨-, m, h1, h2⟩ := id he
    rcases h2 with h2 | ⟨-, h2⟩ <;> rw [h2]
    · exact nx_in h1.1
    · exact nxc_in h1.1
  refine ⟨hd, fun q => ?_⟩
  have := h.cl c 0 d hc hl he
  rw [h.toMet.lab0 hc hl, q] at this
  exact absurd this (by decide)
/-- more is met -/
def mext (la me : Int → Int) (n : Int) (lb mf : Int → Int) (n' : Int) : Prop := (∀ c, la c ≠ FARc → lb c ≠ FARc) ∧ (∀ i, i < n → mf i = me i) ∧ n ≤ n'
theorem mext_0 (la me : Int → Int) (n : Int) : mext la me n la me n := ⟨fun _ h => h, fun _ _ => rfl, Int.le_refl _⟩
theorem mext_t {la me lb mf lc mg : Int → Int} {n n' n'' : Int} (h : mext la me n lb mf n') (h' : mext lb mf n' lc mg n'') : mext la me n lc mg n'' :=
  ⟨fun c q => h'.1 c (h.1 c q), fun i q => by rw [h'.2.1 i (Int.lt_of_lt_of_le q h.2.2), h.2.1 i q], Int.le_trans h.2.2 h'.2.2⟩
theorem mext_a {la : Int → Int} (me : Int → Int) (n : Int) {d : Int} (h : la d = FARc) : mext la me n (ug la d 0) (if la d = FARc then ug me n d else me) (if la d = FARc then n + 1 else n) := by
  rw [if_pos h, if_pos h]
  refine ⟨fun c q => ?_, fun i q => ug_n (by omega), by omega⟩
  by_cases z : c = d
  · rw [z, ug_s]; decide
  · rw [ug_n z]; exact q
def mst (F : mem) (la : Int → Int) (c m : Int) : Prop := la (nx c m) ≠ FARc ∧ (m / 10000 = 3 → la (nxc c m) ≠ FARc)
theorem mst_w {F : mem} {la me lb mf : Int → Int} {n n' c m : Int} (h : mext la me n lb mf n') (q : mst F la c m) : mst F lb c m := ⟨h.1 _ q.1, fun z => h.1 _ (q.2 z)⟩
theorem seenI_w {L Q Q' : Int → Prop} {k : Int} (h : seenI L Q k) (hw : ∀ m, Q m → Q' m) : seenI L Q' k := fun m a b => hw m (h m a b)
def mcl (F : mem) (la me : Int → Int) (k : Int) : Prop := ∀ i, 0 ≤ i → i < k → ∀ m, leg F (me i) m → mst F la (me i) m
theorem mcl_0 (F : mem) (la me : Int → Int) : mcl F la me 0 := fun i a b => by omega
theorem mcl_s {F : mem} {la me lb mf : Int → Int} {n n' k : Int} (h : mcl F la me k) (hm : mext la me n lb mf n') (hk : k < n) (hs : ∀ m, leg F (me k) m → mst F lb (me k) m) : mcl F lb mf (k + 1) := fun i a b m hl => by
  by_cases z : i = k
  · rw [z, hm.2.1 k hk] at hl ⊢
    exact hs m hl
  · rw [hm.2.1 i (by omega)] at hl ⊢
    exact mst_w hm (h i a (by omega) m hl)
theorem mcl_e {F : mem} {s n k : Int} {la me : Int → Int} (hM : Mt (E0 F) s la me n) (h : mcl F la me k) (hk : n ≤ k) : Sought (E0 F) s la me n := by
  refine Sought.mk hM (fun c v d hc hl he => ?_)
  obtain ⟨hv, m, h1, h2⟩ := id he
  obtain ⟨i, a, b, e⟩ := hM.ms c hc hl
  have hs := h i a (by omega) m (by rw [e]; exact h1)
  rw [e] at hs
  have hd : inSt d ∧ la d ≠ FARc := by
    rcases h2 with h2 | ⟨h3, h2⟩ <;> rw [h2]
    · exact ⟨nx_in h1.1, hs.1⟩
    · exact ⟨nxc_in h1.1, hs.2 h3⟩
  rw [hM.lab0 hc hl, hM.lab0 hd.1 hd.2, hv]
  decide
-- ===== chances =====
def chV (F : mem) (u : Int → Int) (c m : Int) : Int := if m / 10000 = 3 then ((100 - F 11 0) * u (nx c m) + F 11 0 * u (nxc c m)) / 100 else u (nx c m)
theorem chV_3 {F : mem} {u : Int → Int} {c m : Int} (h : m / 10000 = 3) : chV F u c m = ((100 - F 11 0) * u (nx c m) + F 11 0 * u (nxc c m)) / 100 := if_pos h
theorem chV_n {F : mem} {u : Int → Int} {c m : Int} (h : ¬ m / 10000 = 3) : chV F u c m = u (nx c m) := if_neg h
theorem mix_b {k x y : Int} (h0 : 0 ≤ k) (h1 : k ≤ 100) (x0 : 0 ≤ x) (x1 : x ≤ 1000000) (y0 : 0 ≤ y) (y1 : y ≤ 1000000) : 0 ≤ (100 - k) * x + k * y ∧ (100 - k) * x + k * y ≤ 100000000 := by
  have a := Int.mul_nonneg (show 0 ≤ 100 - k by omega) x0
  have b := Int.mul_nonneg h0 y0
  have c := Int.mul_le_mul_of_nonneg_left x1 (show 0 ≤ 100 - k by omega)
  have d := Int.mul_le_mul_of_nonneg_left y1 h0
  omega
theorem mix_m {k x y x' y' : Int} (h0 : 0 ≤ k) (h1 : k ≤ 100) (hx : x ≤ x') (hy : y ≤ y') : ((100 - k) * x + k * y) / 100 ≤ ((100 - k) * x' + k * y') / 100 := by
  have c := Int.mul_le_mul_of_nonneg_left hx (show 0 ≤ 100 - k by omega)
  have d := Int.mul_le_mul_of_nonneg_left hy h0
  exact Int.ediv_le_ediv (by decide) (by omega)
def surP (F : mem) (u : Int → Int) (c z : Int) : Prop := 0 ≤ z ∧ z ≤ 1000000 ∧ (∀ m, leg F c m → chV F u c m ≤ z) ∧ (z = 0 ∨ ∃ m, leg F c m ∧ z = chV F u c m)
theorem surP_rg {F : mem} {u : Int → Int} {c z : Int} (h : surP F u c z) : rg z := ⟨by have := h.1; omega, by have := h.2.1; omega⟩
theorem upper_or {P : Int → Prop} {V : Int → Int} {b m : Int} (h : b = 0 ∨ ∃ m, P m ∧ b = V m) (hm : P m) : upper b (V m) = 0 ∨ ∃ m, P m ∧ upper b (V m) = V m := by
  by_cases q : b < V m
  · exact .inr ⟨m, hm, by unfold upper; omega⟩
  · rcases h with h | ⟨x, h1, h2⟩
    · exact .inl (by unfold upper; omega)
    · exact .inr ⟨x, h1, by unfold upper; omega⟩
theorem upper_l {a b : Int} (h : b ≤ a) : a = upper a b := by unfold upper; omega
/-- u is sound from above on the states of R -/
def pfx (F : mem) (R : Int → Prop) (u : Int → Int) : Prop := ∀ c, inSt c → R c → 0 ≤ u c ∧ u c ≤ 1000000 ∧ (dn F c → u c = 1000000) ∧ ∀ m, leg F c m → chV F u c m ≤ u c
def clR (F : mem) (R : Int → Prop) : Prop := ∀ c m, inSt c → R c → leg F c m → R (nx c m) ∧ (m / 10000 = 3 → R (nxc c m))
def IsChance (F : mem) (s z : Int) : Prop := ∃ (R : Int → Prop) (u : Int → Int), inSt s ∧ R s ∧ clR F R ∧ pfx F R u ∧ (∀ w, pfx F R w → ∀ c, inSt c → R c → u c ≤ w c) ∧ z = u s
theorem chV_le {F : mem} {R : Int → Prop} {u w : Int → Int} {c m : Int} (hca : 0 ≤ F 11 0 ∧ F 11 0 ≤ 100) (hR : clR F R) (hc : inSt c) (hr : R c) (hm : leg F c m) (h : ∀ d, inSt d → R d → u d ≤ w d) : chV F u c m ≤ chV F w c m := by
  have a := hR c m hc hr hm
  have b := h _ (nx_in hm.1) a.1
  by_cases q : m / 10000 = 3
  · rw [chV_3 q, chV_3 q]
    exact mix_m hca.1 hca.2 b (h _ (nxc_in hm.1) (a.2 q))
  · rw [chV_n q, chV_n q]; exact b
theorem IsChance.le {F : mem} {s z z' : Int} (hca : 0 ≤ F 11 0 ∧ F 11 0 ≤ 100) (h : IsChance F s z) (h' : IsChance F s z') : z ≤ z' := by
  obtain ⟨R, u, hs, rs, cr, pu, lu, rfl⟩ := h
  obtain ⟨R', u', -, rs', cr', pu', -, rfl⟩ := h'
  have hw : pfx F R (fun c => @ite Int (R' c) (Classical.propDecidable _) (u' c) 1000000) := fun c hc hr => by
    show 0 ≤ @ite Int (R' c) (Classical.propDecidable _) (u' c) 1000000 ∧ _
    by_cases q : R' c
    · have e : @ite Int (R' c) (Classical.propDecidable _) (u' c) 1000000 = u' c := if_pos q
      obtain ⟨a, b, d, f⟩ := pu' c hc q
      simp only [e]
      refine ⟨a, b, d, fun m hm => ?_⟩
      refine Int.le_trans ?_ (f m hm)
      have hq := cr' c m hc q hm
      by_cases q3 : m / 10000 = 3
      · rw [chV_3 q3, chV_3 q3]
        simp only [if_pos hq.1, if_pos (hq.2 q3)]
        exact Int.le_refl _
      · rw [chV_n q3, chV_n q3]
        simp only [if_pos hq.1]
        exact Int.le_refl _
    · have e : @ite Int (R' c) (Classical.propDecidable _) (u' c) 1000000 = 1000000 := if_neg q
      simp only [e]
      refine ⟨by decide, by decide, fun _ => trivial, fun m hm => ?_⟩
      have bd : ∀ d, inSt d → 0 ≤ @ite Int (R' d) (Classical.propDecidable _) (u' d) 1000000 ∧ @ite Int (R' d) (Classical.propDecidable _) (u' d) 1000000 ≤ 1000000 := fun d hd => by
        by_cases z : R' d
        · rw [if_pos z]; exact ⟨(pu' d hd z).1, (pu' d hd z).2.1⟩
        · rw [if_neg z]; decide
      have b1 := bd _ (nx_in (c := c) hm.1)
      have b2 := bd _ (nxc_in (c := c) hm.1)
      by_cases q3 : m / 10000 = 3
      · rw [chV_3 q3]
        have := mix_b hca.1 hca.2 b1.1 b1.2 b2.1 b2.2
        omega
      · rw [chV_n q3]; exact b1.2
  have := lu _ hw s hs rs
  simp only [if_pos rs'] at this
  exact this
theorem IsChance.uniq {F : mem} {s z z' : Int} (hca : 0 ≤ F 11 0 ∧ F 11 0 ≤ 100) (h : IsChance F s z) (h' : IsChance F s z') : z = z' := by
  have := h.le hca h'
  have := h'.le hca h
  omega
/-- what the table of chances is while it is raised -/
def chP (F : mem) (lab u : Int → Int) : Prop := (∀ c, inSt c → lab c ≠ FARc → 0 ≤ u c ∧ u c ≤ 1000000) ∧ (∀ c, inSt c → lab c ≠ FARc → dn F c → u c = 1000000) ∧ (∀ w, pfx F (fun c => lab c ≠ FARc) w → ∀ c, inSt c → lab c ≠ FARc → u c ≤ w c)
def chI (D : Int → Prop) (met : Int → Int) (k : Int) (g : Int → Int) : Prop := ∀ i, 0 ≤ i → i < k → (g (met i) = 1000000 ∧ D (met i)) ∨ (g (met i) = 0 ∧ ¬ D (met i))
theorem chI_0 (D : Int → Prop) (met g : Int → Int) : chI D met 0 g := fun i a b => by omega
theorem chI_s {D : Int → Prop} {met g : Int → Int} {k : Int} (h : chI D met k g) (hd : D (met k)) : chI D met (k + 1) (ug g (met k) 1000000) := fun i a b => by
  by_cases z : met i = met k
  · rw [z, ug_s]; exact .inl ⟨rfl, hd⟩
  · rw [ug_n z]
    exact h i a (by rcases Int.lt_or_le i k with y | y; exact y; exact absurd (by rw [show i = k by omega]) z)
theorem chI_n {D : Int → Prop} {met g : Int → Int} {k : Int} (h : chI D met k g) (hd : ¬ D (met k)) : chI D met (k + 1) (ug g (met k) 0) := fun i a b => by
  by_cases z : met i = met k
  · rw [z, ug_s]; exact .inr ⟨rfl, hd⟩
  · rw [ug_n z]
    exact h i a (by rcases Int.lt_or_le i k with y | y; exact y; exact absurd (by rw [show i = k by omega]) z)
theorem chI_e {E : edge} {F : mem} {s n k : Int} {lab met g : Int → Int} (hS : Sought E s lab met n) (h : chI (dn F) met k g) (hk : n ≤ k) : chP F lab g := by
  have key : ∀ c, inSt c → lab c ≠ FARc → (g c = 1000000 ∧ dn F c) ∨ (g c = 0 ∧ ¬ dn F c) := fun c hc hl => by
    obtain ⟨i, a, b, e⟩ := hS.ms c hc hl
    have := h i a (by omega)
    rw [e] at this
    exact this
  refine ⟨fun c hc hl => ?_, fun c hc hl hd => ?_, fun w hw c hc hl => ?_⟩
  · rcases key c hc hl with ⟨q, -⟩ | ⟨q, -⟩ <;> rw [q] <;> decide
  · rcases key c hc hl with ⟨q, -⟩ | ⟨-, q⟩
    · exact q
    · exact absurd hd q
  · obtain ⟨a, -, b, -⟩ := hw c hc hl
    rcases key c hc hl with ⟨q, r⟩ | ⟨q, -⟩
    · rw [q, b r]; exact Int.le_refl _
    · rw [q]; exact a
theorem chP_s {F : mem} {s n c z : Int} {lab met u : Int → Int} (h : chP F lab u) (hS : clR F (fun c => lab c ≠ FARc)) (hca : 0 ≤ F 11 0 ∧ F 11 0 ≤ 100) (hc : inSt c) (hl : lab c ≠ FARc) (hz : surP F u c z) : chP F lab (ug u c (upper (u c) z)) := by
  obtain ⟨h1, h2, h3⟩ := h
  obtain ⟨z0, z1, z2, z3⟩ := hz
  have hu := h1 c hc hl
  refine ⟨fun x hx hxl => ?_, fun x hx hxl hd => ?_, fun w hw x hx hxl => ?_⟩
  · by_cases q : x = c
    · rw [q, ug_s]; unfold upper; omega
    · rw [ug_n q]; exact h1 x hx hxl
  · by_cases q : x = c
    · have := h2 c hc hl (by rw [← q]; exact hd)
      rw [q, ug_s]; unfold upper; omega
    · rw [ug_n q]; exact h2 x hx hxl hd
  · by_cases q : x = c
    · have a := h3 w hw c hc hl
      obtain ⟨w0, -, -, wm⟩ := hw c hc hl
      have b : z ≤ w c := by
        rcases z3 with e | ⟨m, hm, e⟩
        · rw [e]; exact w0
        · rw [e]
          exact Int.le_trans (chV_le hca hS hc hl hm (fun d hd hdl => h3 w hw d hd hdl)) (wm m hm)
      rw [q, ug_s]; unfold upper; omega
    · rw [ug_n q]; exact h3 w hw x hx hxl
theorem clR_0 {F : mem} {s n : Int} {lab met : Int → Int} (hS : Sought (E0 F) s lab met n) : clR F (fun c => lab c ≠ FARc) := fun c m hc hl hm => ⟨(hS.next0 hc hl (E0.stp hm)).2, fun q => (hS.next0 hc hl (E0.stc hm q)).2⟩
def stabC (F : mem) (met u : Int → Int) (k n : Int) : Prop := ∀ i, k < i → i < n → u (met i) = 1000000 ∨ ∀ m, leg F (met i) m → chV F u (met i) m ≤ u (met i)
theorem stabC_0 (F : mem) (met u : Int → Int) (n : Int) : stabC F met u (n - 1) n := fun i a b => by omega
theorem stabC_s {F : mem} {k n : Int} {met u : Int → Int} (h : stabC F met u k n) (hk : u (met k) = 1000000 ∨ ∀ m, leg F (met k) m → chV F u (met k) m ≤ u (met k)) : stabC F met u (k + (-1)) n := fun i a b => by
  by_cases z : i = k
  · rw [z]; exact hk
  · exact h i (by omega) b
theorem chV_b {F : mem} {lab u : Int → Int} {c m : Int} (hca : 0 ≤ F 11 0 ∧ F 11 0 ≤ 100) (h : chP F lab u) (hR : clR F (fun c => lab c ≠ FARc)) (hc : inSt c) (hl : lab c ≠ FARc) (hm : leg F c m) : chV F u c m ≤ 1000000 := by
  have a := hR c m hc hl hm
  have b1 := h.1 _ (nx_in hm.1) a.1
  by_cases q : m / 10000 = 3
  · have b2 := h.1 _ (nxc_in hm.1) (a.2 q)
    have := mix_b hca.1 hca.2 b1.1 b1.2 b2.1 b2.2
    rw [chV_3 q]
    omega
  · rw [chV_n q]; exact b1.2
theorem chP_e {E : edge} {F : mem} {s n : Int} {lab met u : Int → Int} (hS : Mt E s lab met n) (hR : clR F (fun c => lab c ≠ FARc)) (hca : 0 ≤ F 11 0 ∧ F 11 0 ≤ 100) (h : chP F lab u) (hs : stabC F met u (-1) n) : IsChance F s (u s) := by
  have h0 := hS.h0
  have hl0 : lab s ≠ FARc := by rw [h0]; decide
  refine ⟨fun c => lab c ≠ FARc, u, hS.hs, hl0, hR, fun c hc hl => ?_, h.2.2, rfl⟩
  have hb := h.1 c hc hl
  refine ⟨hb.1, hb.2, h.2.1 c hc hl, fun m hm => ?_⟩
  obtain ⟨i, i0, i1, e⟩ := hS.ms c hc hl
  rcases hs i (by omega) i1 with q | q
  · rw [e] at q
    rw [q]
    exact chV_b hca h hR hc hl hm
  · rw [e] at q
    exact q m hm
theorem chM_b {F : mem} {lab u : Int → Int} (h : chP F lab u) : 0 ≤ smN (msk lab u) 4500 ∧ smN (msk lab u) 4500 ≤ 4500000000 := by
  have key : ∀ c, inSt c → 0 ≤ msk lab u c ∧ msk lab u c ≤ 1000000 := fun c hc => by
    by_cases q : lab c = FARc
    · unfold msk; rw [if_pos q]; decide
    · rw [msk_at q]; exact h.1 c hc q
  refine ⟨smN_nn (fun i a b => (key i ⟨a, b⟩).1), ?_⟩
  have : ∀ n : Nat, n ≤ 4500 → smN (msk lab u) n ≤ 1000000 * (n : Int) := fun n => by
    induction n with
    | zero => intro _; exact Int.le_refl 0
    | succ n ih =>
      intro hn
      have h1 := ih (by omega)
      have h2 := key n ⟨by omega, by omega⟩
      simp only [smN]
      omega
  exact this 4500 (Nat.le_refl _)
theorem chM_s {lab u : Int → Int} {c z : Int} (hc : inSt c) (hl : lab c ≠ FARc) (hz : u c < z) : smN (msk lab u) 4500 < smN (msk lab (ug u c (upper (u c) z))) 4500 := by
  have := smN_ug (msk lab u) c (upper (u c) z) hc.1 4500
  rw [if_pos (show c < ((4500 : Nat) : Int) from hc.2), msk_at hl] at this
  rw [msk_ug hl, this]
  unfold upper
  omega
theorem ii_orm0 {s : Int} (h : s = 0 ∨ s = 1) : ii s ||| ii 0 = ii s := by rcases h with rfl | rfl <;> decide
theorem ii_orm1 {s : Int} (h : s = 0 ∨ s = 1) : ii s ||| ii 1 = ii 1 := by rcases h with rfl | rfl <;> decide
