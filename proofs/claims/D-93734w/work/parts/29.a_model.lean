/-! THE MODEL'S LEAVES, pure: a face as DownRopeModel keeps it, its words for a move that may be made -/
set_option maxRecDepth 100000
/-- the model's memory holds the face F: where F has ledges, people, ropes -/
def Sim (F τ : mem) : Prop :=
  τ 0 0 = F 8 0 ∧ τ 5 0 = F 9 0 ∧ τ 7 0 = F 10 0 ∧ τ 11 0 = F 11 0 ∧ τ 12 0 = F 12 0 ∧ τ 13 0 = F 13 0 ∧
  (∀ i, 0 ≤ i → i < F 8 0 → τ 1 i = F 0 i ∧ τ 2 i = F 1 i ∧ τ 3 i = F 2 i ∧ τ 4 i = F 3 i) ∧
  (∀ i, 0 ≤ i → i < F 9 0 → τ 6 i = F 4 i ∧ τ 9 i = F 6 i) ∧
  (∀ i, 0 ≤ i → i < F 10 0 → τ 8 i = F 5 i ∧ τ 10 i = F 7 i)
theorem rg_rl {z : Int} (h : rg z) : rl z := ⟨by have := h.1; omega, by have := h.2; omega⟩
theorem ones_b {v : Int} (h0 : 0 ≤ v) (h7 : v ≤ 7) : 0 ≤ ones v ∧ ones v ≤ 3 := by unfold ones; omega
theorem ones_rg {v : Int} (h0 : 0 ≤ v) (h7 : v ≤ 7) : rg (ones v) := by
  have := ones_b h0 h7
  exact ⟨by omega, by omega⟩
def hurtIn (F : mem) (st : Int) : Prop := (0 < F 9 0 ∧ st % 2 = 1 ∧ F 4 0 = 2) ∨ (1 < F 9 0 ∧ st / 2 % 2 = 1 ∧ F 4 1 = 2) ∨ (2 < F 9 0 ∧ st / 4 % 2 = 1 ∧ F 4 2 = 2)
def inAt (w : Int → Int) (g fr p : Int) : Prop := g = 1 → w p = fr
def at1 (w : Int → Int) (to p : Int) : Int := if w p = to then 1 else 0
def upto (w : Int → Int) (st fr k : Int) : Prop := ∀ p, 0 ≤ p → p < k → inAt w (bit p st) fr p
def okb (P : Prop) (y : Int) : Prop := (y = 1 ∧ P) ∨ (y = 0 ∧ ¬ P)
def sumAt (P : Int) (w : Int → Int) (to : Int) : Int := (if 0 < P then at1 w to 0 else 0) + (if 1 < P then at1 w to 1 else 0) + (if 2 < P then at1 w to 2 else 0)
/-- all of a set are where they go from, and there is room where they go to -/
def mgOk (F : mem) (w : Int → Int) (st fr to : Int) : Prop := st < p2 (F 9 0) ∧ upto w st fr (F 9 0) ∧ (st = 0 ∨ to = F 8 0 - 1 ∨ ones st + sumAt (F 9 0) w to ≤ F 0 to)
theorem up_i1 {S : Prop} {w : Int → Int} {st fr : Int} (h : S) : okb (S ∧ upto w st fr 0) 1 := .inl ⟨rfl, h, fun p a b => by omega⟩
theorem up_i0 {S : Prop} {w : Int → Int} {st fr : Int} (h : ¬ S) : okb (S ∧ upto w st fr 0) 0 := .inr ⟨rfl, fun q => h q.1⟩
theorem upto_s {w : Int → Int} {st fr p : Int} (h0 : 0 ≤ p) : upto w st fr (p + 1) ↔ upto w st fr p ∧ inAt w (bit p st) fr p := by
  refine ⟨fun h => ⟨fun q a b => h q a (by omega), h p h0 (by omega)⟩, fun h q a b => ?_⟩
  by_cases z : q = p
  · rw [z]; exact h.2
  · exact h.1 q a (by omega)
theorem up_0 {S : Prop} {w : Int → Int} {st fr p o : Int} (h : okb (S ∧ upto w st fr p) o) (ho : o = 0) (h0 : 0 ≤ p := by decide) : okb (S ∧ upto w st fr (p + 1)) 0 := by
  rcases h with ⟨a, -⟩ | ⟨-, b⟩
  · omega
  · exact .inr ⟨rfl, fun q => b ⟨q.1, ((upto_s h0).mp q.2).1⟩⟩
theorem up_1 {S : Prop} {w : Int → Int} {st fr p o : Int} (h : okb (S ∧ upto w st fr p) o) (ho : ¬ o = 0) (hi : inAt w (bit p st) fr p) (h0 : 0 ≤ p := by decide) : okb (S ∧ upto w st fr (p + 1)) 1 := by
  rcases h with ⟨-, a⟩ | ⟨b, -⟩
  · exact .inl ⟨rfl, a.1, (upto_s h0).mpr ⟨a.2, hi⟩⟩
  · omega
theorem up_x {S : Prop} {w : Int → Int} {st fr p o : Int} (_ : okb (S ∧ upto w st fr p) o) (hi : ¬ inAt w (bit p st) fr p) (h0 : 0 ≤ p := by decide) : okb (S ∧ upto w st fr (p + 1)) 0 :=
  .inr ⟨rfl, fun q => hi ((upto_s h0).mp q.2).2⟩
theorem mg_t {F : mem} {w : Int → Int} {st fr to k o : Int} (h : okb (st < p2 (F 9 0) ∧ upto w st fr k) o) (hk : F 9 0 = k) (ho : ¬ o = 0) (hd : st = 0 ∨ to = F 8 0 - 1 ∨ ones st + sumAt (F 9 0) w to ≤ F 0 to) : mgOk F w st fr to := by
  rcases h with ⟨-, a⟩ | ⟨b, -⟩
  · exact ⟨a.1, by rw [hk]; exact a.2, hd⟩
  · omega
theorem mg_f {F : mem} {w : Int → Int} {st fr to k o : Int} (h : okb (st < p2 (F 9 0) ∧ upto w st fr k) o) (hk : F 9 0 = k) (ho : o = 0) : ¬ mgOk F w st fr to := fun q => by
  rcases h with ⟨a, -⟩ | ⟨-, b⟩
  · omega
  · exact b ⟨q.1, by rw [← hk]; exact q.2.1⟩
theorem okb_rg {P : Prop} {y : Int} (h : okb P y) : rg y := by
  rcases h with ⟨rfl, -⟩ | ⟨rfl, -⟩ <;> exact ⟨by decide, by decide⟩
theorem bit_0 (z : Int) : bit 0 z = z % 2 := rfl
theorem bit_1 (z : Int) : bit 1 z = z / 2 % 2 := rfl
theorem bit_2 (z : Int) : bit 2 z = z / 4 % 2 := rfl
theorem upto_3 {F : mem} {w : Int → Int} {st fr : Int} (h0 : 0 ≤ F 9 0) (h3 : F 9 0 ≤ 3) : upto w st fr (F 9 0) ↔ (0 < F 9 0 → st % 2 = 1 → w 0 = fr) ∧ (1 < F 9 0 → st / 2 % 2 = 1 → w 1 = fr) ∧ (2 < F 9 0 → st / 4 % 2 = 1 → w 2 = fr) := by
  constructor
  · intro h
    exact ⟨fun a b => h 0 (by decide) a b, fun a b => h 1 (by decide) a b, fun a b => h 2 (by decide) a b⟩
  · rintro ⟨a, b, c⟩ p p0 p1
    rcases (show p = 0 ∨ p = 1 ∨ p = 2 by omega) with rfl | rfl | rfl
    · exact a p1
    · exact b p1
    · exact c p1
theorem p2_lt {P st : Int} (hP : 0 ≤ P ∧ P ≤ 3) (hs : 0 ≤ st ∧ st ≤ 7) : st < p2 P ↔ (st % 2 = 1 → 0 < P) ∧ (st / 2 % 2 = 1 → 1 < P) ∧ (st / 4 % 2 = 1 → 2 < P) := by
  rcases (show P = 0 ∨ P = 1 ∨ P = 2 ∨ P = 3 by omega) with rfl | rfl | rfl | rfl <;>
  rcases (show st = 0 ∨ st = 1 ∨ st = 2 ∨ st = 3 ∨ st = 4 ∨ st = 5 ∨ st = 6 ∨ st = 7 by omega) with rfl | rfl | rfl | rfl | rfl | rfl | rfl | rfl <;> decide
theorem tp_eq {F : mem} {w : Int → Int} {g to fr p : Int} (hg : g = 0 ∨ g = 1) (h : g = 1 → p < F 9 0 ∧ w p = fr) (hn : ¬ to = fr) : tpV F w g to p = g + (if p < F 9 0 then at1 w to p else 0) := by
  rcases hg with rfl | rfl
  · by_cases q : p < F 9 0
    · rw [if_pos q]
      by_cases z : w p = to
      · rw [← tpV_1 (.inr ⟨q, z⟩)]; unfold at1; rw [if_pos z]; rfl
      · rw [← tpV_0 (by rintro (x | x); exact absurd x (by decide); exact z x.2)]; unfold at1; rw [if_neg z]; rfl
    · rw [if_neg q, ← tpV_0 (by rintro (x | x); exact absurd x (by decide); exact q x.1)]; rfl
  · obtain ⟨a, b⟩ := h rfl
    rw [if_pos a, ← tpV_1 (.inl rfl)]
    unfold at1
    rw [if_neg (by omega)]
    rfl
/-- the component's words for those that go, by the model's -/
theorem okGo_mg {F : mem} {w : Int → Int} {st fr to : Int} (hst : 0 ≤ st ∧ st ≤ 7) (h0 : 0 ≤ F 9 0) (h3 : F 9 0 ≤ 3) : okGo F w st fr to 0 ↔ ¬ st = 0 ∧ 0 ≤ to ∧ to < F 8 0 ∧ ¬ to = fr ∧ mgOk F w st fr to := by
  have key : (st % 2 = 1 → 0 < F 9 0 ∧ w 0 = fr) → (st / 2 % 2 = 1 → 1 < F 9 0 ∧ w 1 = fr) → (st / 4 % 2 = 1 → 2 < F 9 0 ∧ w 2 = fr) → ¬ to = fr →
      tpV F w (st % 2) to 0 + tpV F w (st / 2 % 2) to 1 + tpV F w (st / 4 % 2) to 2 = ones st + sumAt (F 9 0) w to := fun q0 q1 q2 hn => by
    rw [tp_eq (by omega) q0 hn, tp_eq (by omega) q1 hn, tp_eq (by omega) q2 hn]
    unfold sumAt ones
    generalize (if 0 < F 9 0 then at1 w to 0 else 0) = x0
    generalize (if 1 < F 9 0 then at1 w to 1 else 0) = x1
    generalize (if 2 < F 9 0 then at1 w to 2 else 0) = x2
    omega
  unfold okGo mgOk
  rw [upto_3 h0 h3, p2_lt ⟨h0, h3⟩ hst]
  constructor
  · rintro ⟨a, b, c, d, g0, g1, g2, e⟩
    refine ⟨a, b, c, d, ⟨fun y => (g0 y).1, fun y => (g1 y).1, fun y => (g2 y).1⟩, ⟨fun x y => (g0 y).2.1, fun x y => (g1 y).2.1, fun x y => (g2 y).2.1⟩, .inr ?_⟩
    rw [key (fun y => ⟨(g0 y).1, (g0 y).2.1⟩) (fun y => ⟨(g1 y).1, (g1 y).2.1⟩) (fun y => ⟨(g2 y).1, (g2 y).2.1⟩) d] at e
    exact e
  · rintro ⟨a, b, c, d, ⟨e0, e1, e2⟩, ⟨g0, g1, g2⟩, f⟩
    refine ⟨a, b, c, d, fun y => ⟨e0 y, g0 (e0 y) y, .inl rfl⟩, fun y => ⟨e1 y, g1 (e1 y) y, .inl rfl⟩, fun y => ⟨e2 y, g2 (e2 y) y, .inl rfl⟩, ?_⟩
    rw [key (fun y => ⟨e0 y, g0 (e0 y) y⟩) (fun y => ⟨e1 y, g1 (e1 y) y⟩) (fun y => ⟨e2 y, g2 (e2 y) y⟩) d]
    rcases f with f | f
    · exact absurd f a
    · exact f
theorem okGo_h {F : mem} {w : Int → Int} {st fr to : Int} (h0 : 0 ≤ F 9 0) : okGo F w st fr to 1 ↔ okGo F w st fr to 0 ∧ ¬ hurtIn F st := by
  unfold okGo goP hurtIn
  constructor
  · rintro ⟨a, b, c, d, g0, g1, g2, e⟩
    refine ⟨⟨a, b, c, d, fun y => ⟨(g0 y).1, (g0 y).2.1, .inl rfl⟩, fun y => ⟨(g1 y).1, (g1 y).2.1, .inl rfl⟩, fun y => ⟨(g2 y).1, (g2 y).2.1, .inl rfl⟩, e⟩, ?_⟩
    rintro (⟨p, q, r⟩ | ⟨p, q, r⟩ | ⟨p, q, r⟩)
    · rcases (g0 q).2.2 with z | z
      · omega
      · exact z r
    · rcases (g1 q).2.2 with z | z
      · omega
      · exact z r
    · rcases (g2 q).2.2 with z | z
      · omega
      · exact z r
  · rintro ⟨⟨a, b, c, d, g0, g1, g2, e⟩, hn⟩
    exact ⟨a, b, c, d, fun y => ⟨(g0 y).1, (g0 y).2.1, .inr fun z => hn (.inl ⟨(g0 y).1, y, z⟩)⟩, fun y => ⟨(g1 y).1, (g1 y).2.1, .inr fun z => hn (.inr (.inl ⟨(g1 y).1, y, z⟩))⟩, fun y => ⟨(g2 y).1, (g2 y).2.1, .inr fun z => hn (.inr (.inr ⟨(g2 y).1, y, z⟩))⟩, e⟩
theorem mgOk_0 {F : mem} {w : Int → Int} {fr to : Int} (h0 : 0 ≤ F 9 0) (h3 : F 9 0 ≤ 3) : mgOk F w 0 fr to := by
  refine ⟨by have := p2_b3 h0 h3; omega, ?_, .inl rfl⟩
  rw [upto_3 h0 h3]
  exact ⟨fun _ q => absurd q (by decide), fun _ q => absurd q (by decide), fun _ q => absurd q (by decide)⟩
theorem mnOk_pre {F : mem} {w q : Int → Int} {k st r fr to : Int} (hst : 0 ≤ st ∧ st ≤ 7) (h0 : 0 ≤ F 9 0) (h3 : F 9 0 ≤ 3) (_ : 0 ≤ F 10 0) (_ : F 10 0 ≤ 2) (h : mnOk F w q k st r fr to) :
    (0 ≤ fr ∧ fr < F 8 0) ∧ (0 ≤ to ∧ to < F 8 0) ∧ ¬ fr = to ∧ 1 ≤ k ∧ k ≤ 6 ∧ (st = 0 ↔ k = 6) ∧ mgOk F w st fr to := by
  have g1 : okGo F w st fr to 1 → ¬ st = 0 ∧ 0 ≤ to ∧ to < F 8 0 ∧ ¬ to = fr ∧ mgOk F w st fr to := fun z => (okGo_mg hst h0 h3).mp ((okGo_h h0).mp z).1
  have g0 : okGo F w st fr to 0 → ¬ st = 0 ∧ 0 ≤ to ∧ to < F 8 0 ∧ ¬ to = fr ∧ mgOk F w st fr to := (okGo_mg hst h0 h3).mp
  rcases h with ⟨hk, a, -, c, -⟩ | ⟨hk, a, -, c, -⟩ | ⟨hk, a, -, c, -⟩ | ⟨hk, a, -, c, -⟩ | ⟨hk, -, -, -, c, -, -, a⟩ | ⟨hk, a, b, -⟩
  · obtain ⟨c1, c2, c3, c4, c5⟩ := g1 c
    unfold okFar at a
    exact ⟨⟨by omega, by omega⟩, ⟨c2, c3⟩, by omega, by omega, by omega, by omega, c5⟩
  · obtain ⟨c1, c2, c3, c4, c5⟩ := g1 c
    unfold okFar at a
    exact ⟨⟨by omega, by omega⟩, ⟨c2, c3⟩, by omega, by omega, by omega, by omega, c5⟩
  · obtain ⟨c1, c2, c3, c4, c5⟩ := g1 c
    unfold okFar at a
    exact ⟨⟨by omega, by omega⟩, ⟨c2, c3⟩, by omega, by omega, by omega, by omega, c5⟩
  · obtain ⟨c1, c2, c3, c4, c5⟩ := g0 c
    unfold okFar at a
    exact ⟨⟨by omega, by omega⟩, ⟨c2, c3⟩, by omega, by omega, by omega, by omega, c5⟩
  · obtain ⟨c1, c2, c3, c4, c5⟩ := g1 c
    exact ⟨⟨a.1, a.2⟩, ⟨c2, c3⟩, by omega, by omega, by omega, by omega, c5⟩
  · subst a
    unfold okFar at b
    exact ⟨⟨by omega, by omega⟩, ⟨by omega, by omega⟩, by omega, by omega, by omega, by omega, mgOk_0 h0 h3⟩
theorem mnx1 {F : mem} {w q : Int → Int} {k st r fr to : Int} (hW : wfF F) (hst : 0 ≤ st ∧ st ≤ 7) (hf : 0 ≤ fr ∧ fr < F 8 0) (ht : 0 ≤ to ∧ to < F 8 0) (hn : ¬ fr = to) (hs : st = 0 ↔ k = 6) (hm : mgOk F w st fr to) (hk : k = 1) :
    mnOk F w q k st r fr to ↔ fr < to ∧ F 1 fr = 1 ∧ ¬ hurtIn F st ∧ okRope F q r fr ∧ 2 * fs (F 2) fr to ≤ F 5 r := by
  have h1 := hW.2.1 fr
  have h9 := hW.2.2.2.2.2.2.2.2
  have go : okGo F w st fr to 1 ↔ ¬ hurtIn F st := by
    rw [okGo_h h9.1, okGo_mg hst h9.1 h9.2.1]
    exact ⟨fun z => z.2, fun z => ⟨⟨by omega, ht.1, ht.2, by omega, hm⟩, z⟩⟩
  subst hk
  unfold mnOk
  rw [go]
  unfold okFar
  constructor
  · rintro (⟨-, a, b, c, d, e⟩ | ⟨x, -⟩ | ⟨x, -⟩ | ⟨x, -⟩ | ⟨x, -⟩ | ⟨x, -⟩)
    · exact ⟨by omega, by omega, c, d, e⟩
    all_goals exact absurd x (by decide)
  · rintro ⟨a, b, c, d, e⟩
    exact .inl ⟨rfl, by omega, by omega, c, d, e⟩
theorem mnx2 {F : mem} {w q : Int → Int} {k st r fr to : Int} (hW : wfF F) (hst : 0 ≤ st ∧ st ≤ 7) (hf : 0 ≤ fr ∧ fr < F 8 0) (ht : 0 ≤ to ∧ to < F 8 0) (hn : ¬ fr = to) (hs : st = 0 ↔ k = 6) (hm : mgOk F w st fr to) (hk : k = 2) :
    mnOk F w q k st r fr to ↔ fr < to ∧ F 1 fr = 1 ∧ ¬ hurtIn F st ∧ okRope F q r fr ∧ fs (F 2) fr to ≤ F 5 r := by
  have h1 := hW.2.1 fr
  have h9 := hW.2.2.2.2.2.2.2.2
  have go : okGo F w st fr to 1 ↔ ¬ hurtIn F st := by
    rw [okGo_h h9.1, okGo_mg hst h9.1 h9.2.1]
    exact ⟨fun z => z.2, fun z => ⟨⟨by omega, ht.1, ht.2, by omega, hm⟩, z⟩⟩
  subst hk
  unfold mnOk
  rw [go]
  unfold okFar
  constructor
  · rintro (⟨x, -⟩ | ⟨-, a, b, c, d, e⟩ | ⟨x, -⟩ | ⟨x, -⟩ | ⟨x, -⟩ | ⟨x, -⟩)
    · exact absurd x (by decide)
    · exact ⟨by omega, by omega, c, d, e⟩
    all_goals exact absurd x (by decide)
  · rintro ⟨a, b, c, d, e⟩
    exact .inr (.inl ⟨rfl, by omega, by omega, c, d, e⟩)
theorem mnx3 {F : mem} {w q : Int → Int} {k st r fr to : Int} (hW : wfF F) (hst : 0 ≤ st ∧ st ≤ 7) (hf : 0 ≤ fr ∧ fr < F 8 0) (ht : 0 ≤ to ∧ to < F 8 0) (hn : ¬ fr = to) (hs : st = 0 ↔ k = 6) (hm : mgOk F w st fr to) (hk : k = 3) :
    mnOk F w q k st r fr to ↔ fr < to ∧ F 1 fr = 1 ∧ ¬ hurtIn F st ∧ r = 0 ∧ okRope F q 0 fr ∧ okRope F q 1 fr ∧ fs (F 2) fr to ≤ F 5 0 ∧ fs (F 2) fr to ≤ F 5 1 := by
  have h1 := hW.2.1 fr
  have h9 := hW.2.2.2.2.2.2.2.2
  have go : okGo F w st fr to 1 ↔ ¬ hurtIn F st := by
    rw [okGo_h h9.1, okGo_mg hst h9.1 h9.2.1]
    exact ⟨fun z => z.2, fun z => ⟨⟨by omega, ht.1, ht.2, by omega, hm⟩, z⟩⟩
  subst hk
  unfold mnOk
  rw [go]
  unfold okFar
  constructor
  · rintro (⟨x, -⟩ | ⟨x, -⟩ | ⟨-, a, b, c, d, e⟩ | ⟨x, -⟩ | ⟨x, -⟩ | ⟨x, -⟩)
    · exact absurd x (by decide)
    · exact absurd x (by decide)
    · exact ⟨by omega, by omega, c, d, e⟩
    all_goals exact absurd x (by decide)
  · rintro ⟨a, b, c, d, e⟩
    exact .inr (.inr (.inl ⟨rfl, by omega, by omega, c, d, e⟩))
theorem mnx4 {F : mem} {w q : Int → Int} {k st r fr to : Int} (hW : wfF F) (hst : 0 ≤ st ∧ st ≤ 7) (hf : 0 ≤ fr ∧ fr < F 8 0) (ht : 0 ≤ to ∧ to < F 8 0) (hn : ¬ fr = to) (hs : st = 0 ↔ k = 6) (hm : mgOk F w st fr to) (hk : k = 4) :
    mnOk F w q k st r fr to ↔ ones st = 1 ∧ fr < to ∧ okHelp F w st fr ∧ okRope F q r fr ∧ fs (F 2) fr to ≤ F 5 r := by
  have h9 := hW.2.2.2.2.2.2.2.2
  have go : okGo F w st fr to 0 := (okGo_mg hst h9.1 h9.2.1).mpr ⟨by omega, ht.1, ht.2, by omega, hm⟩
  subst hk
  unfold mnOk okFar
  constructor
  · rintro (⟨x, -⟩ | ⟨x, -⟩ | ⟨x, -⟩ | ⟨-, a, b, c, d, e⟩ | ⟨x, -⟩ | ⟨x, -⟩)
    · exact absurd x (by decide)
    · exact absurd x (by decide)
    · exact absurd x (by decide)
    · exact ⟨b, by omega, d, e⟩
    all_goals exact absurd x (by decide)
  · rintro ⟨a, b, c, d⟩
    exact .inr (.inr (.inr (.inl ⟨rfl, by omega, a, go, c, d⟩)))
theorem set_lt {F : mem} {w : Int → Int} {st fr to : Int} (hm : mgOk F w st fr to) (hst : 0 ≤ st ∧ st ≤ 7) (h0 : 0 ≤ F 9 0) (h3 : F 9 0 ≤ 3) (h1 : ones st = 1) : st / 2 < F 9 0 := by
  have hb := (p2_lt ⟨h0, h3⟩ hst).mp hm.1
  have hs : st = 1 ∨ st = 2 ∨ st = 4 := by unfold ones at h1; omega
  rcases hs with rfl | rfl | rfl
  · exact hb.1 rfl
  · exact hb.2.1 rfl
  · exact hb.2.2 rfl
theorem climb_1 {F : mem} {st : Int} (hst : 0 ≤ st ∧ st ≤ 7) (h1 : ones st = 1) (hp : st / 2 < F 9 0) : okClimber F st ↔ F 4 (st / 2) = 0 := by
  have hs : st = 1 ∨ st = 2 ∨ st = 4 := by unfold ones at h1; omega
  unfold okClimber
  rcases hs with rfl | rfl | rfl
  · exact ⟨fun h => h.1 (by decide) (by omega), fun h => ⟨fun _ _ => h, fun q => absurd q (by decide), fun q => absurd q (by decide)⟩⟩
  · exact ⟨fun h => h.2.1 (by decide) (by omega), fun h => ⟨fun q => absurd q (by decide), fun _ _ => h, fun q => absurd q (by decide)⟩⟩
  · exact ⟨fun h => h.2.2 (by decide) (by omega), fun h => ⟨fun q => absurd q (by decide), fun q => absurd q (by decide), fun _ _ => h⟩⟩
theorem hurt_1 {F : mem} {st : Int} (hst : 0 ≤ st ∧ st ≤ 7) (h1 : ones st = 1) (hf : F 4 (st / 2) = 0) : ¬ hurtIn F st := by
  have hs : st = 1 ∨ st = 2 ∨ st = 4 := by unfold ones at h1; omega
  unfold hurtIn
  rcases hs with rfl | rfl | rfl
  · have hf : F 4 0 = 0 := hf
    omega
  · have hf : F 4 1 = 0 := hf
    omega
  · have hf : F 4 2 = 0 := hf
    omega
theorem mnx5 {F : mem} {w q : Int → Int} {k st r fr to : Int} (hW : wfF F) (hst : 0 ≤ st ∧ st ≤ 7) (hf : 0 ≤ fr ∧ fr < F 8 0) (ht : 0 ≤ to ∧ to < F 8 0) (hn : ¬ fr = to) (hs : st = 0 ↔ k = 6) (hm : mgOk F w st fr to) (hk : k = 5) :
    mnOk F w q k st r fr to ↔ r = 0 ∧ (to - fr = 1 ∨ fr - to = 1) ∧ ones st = 1 ∧ F 4 (st / 2) = 0 ∧ ¬ F 3 (lower fr to) = 0 := by
  have h9 := hW.2.2.2.2.2.2.2.2
  have g0 : okGo F w st fr to 0 := (okGo_mg hst h9.1 h9.2.1).mpr ⟨by omega, ht.1, ht.2, by omega, hm⟩
  subst hk
  unfold mnOk
  constructor
  · rintro (⟨x, -⟩ | ⟨x, -⟩ | ⟨x, -⟩ | ⟨x, -⟩ | ⟨-, a, b, c, d, e, f, g⟩ | ⟨x, -⟩)
    · exact absurd x (by decide)
    · exact absurd x (by decide)
    · exact absurd x (by decide)
    · exact absurd x (by decide)
    · exact ⟨b, by omega, a, (climb_1 hst a (set_lt hm hst h9.1 h9.2.1 a)).mp e, f⟩
    · exact absurd x (by decide)
  · rintro ⟨a, b, c, d, e⟩
    exact .inr (.inr (.inr (.inr (.inl ⟨rfl, c, a, by omega, (okGo_h h9.1).mpr ⟨g0, hurt_1 hst c d⟩, (climb_1 hst c (set_lt hm hst h9.1 h9.2.1 c)).mpr d, e, hf.1, hf.2⟩))))
theorem mnx6 {F : mem} {w q : Int → Int} {k st r fr to : Int} (hW : wfF F) (hst : 0 ≤ st ∧ st ≤ 7) (hf : 0 ≤ fr ∧ fr < F 8 0) (ht : 0 ≤ to ∧ to < F 8 0) (hn : ¬ fr = to) (hs : st = 0 ↔ k = 6) (hm : mgOk F w st fr to) (hk : k = 6) :
    mnOk F w q k st r fr to ↔ fr < to ∧ okHelp F w 0 fr ∧ okRope F q r fr := by
  have h0 : st = 0 := hs.mpr hk
  subst h0
  subst hk
  unfold mnOk okFar
  constructor
  · rintro (⟨x, -⟩ | ⟨x, -⟩ | ⟨x, -⟩ | ⟨x, -⟩ | ⟨x, -⟩ | ⟨-, a, b, c, d⟩)
    · exact absurd x (by decide)
    · exact absurd x (by decide)
    · exact absurd x (by decide)
    · exact absurd x (by decide)
    · exact absurd x (by decide)
    · exact ⟨by omega, c, d⟩
  · rintro ⟨a, b, c⟩
    exact .inr (.inr (.inr (.inr (.inr ⟨rfl, rfl, by omega, b, c⟩))))
theorem lower_a {a b : Int} (h : a < b) : lower a b = a := by unfold lower; omega
theorem lower_b {a b : Int} (h : b ≤ a) : lower a b = b := by unfold lower; omega
theorem fs_1 {g : Int → Int} {a b : Int} (h : b = a + 1) : fs g a b = g a := by
  rw [h, fs_s g (Int.le_refl a), fs_0]
  omega
theorem mDr {F τ : mem} {q : Int → Int} {r fr : Int} (mD : ∀ i, 0 ≤ i → i < F 10 0 → τ 8 i = F 5 i ∧ τ 10 i = F 7 i) (h : okRope F q r fr) (h0 : 0 ≤ r) : τ 8 r = F 5 r := (mD r h0 h.1).1
