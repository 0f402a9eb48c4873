/-! THE FRAME OF THE WORK: Int32 by integers, rows over them, the classes and array classes of the system, contracts in four shapes and their calls -/
set_option maxRecDepth 100000
-- ===== Int32 by integers =====
def ii (z : Int) : Int32 := Int32.ofInt z
def rg (z : Int) : Prop := -2147483648 ≤ z ∧ z ≤ 2147483647
theorem ii_add (a b : Int) : ii a + ii b = ii (a + b) := (Int32.ofInt_add a b).symm
theorem ii_sub (a b : Int) : ii a - ii b = ii (a - b) := (Int32.ofInt_sub a b).symm
theorem ii_mul (a b : Int) : ii a * ii b = ii (a * b) := (Int32.ofInt_mul a b).symm
theorem ii_neg (a : Int) : -ii a = ii (-a) := (Int32.ofInt_neg a).symm
theorem ii_0 : (0 : Int32) = ii 0 := by decide
theorem ii_t {z : Int} (h : rg z) : (ii z).toInt = z := Int32.toInt_ofInt_of_le (by have := h.1; omega) (by have := h.2; omega)
theorem ii_of (x : Int32) : x = ii x.toInt := (Int32.ofInt_toInt x).symm
theorem rg_of (x : Int32) : rg x.toInt := by
  have h1 := Int32.le_toInt x
  have h2 := Int32.toInt_lt x
  exact ⟨by omega, by omega⟩
theorem ii_eq {a b : Int} (ha : rg a) (hb : rg b) : ii a = ii b ↔ a = b := by
  rw [← Int32.toInt_inj, ii_t ha, ii_t hb]
theorem ii_le {a b : Int} (ha : rg a) (hb : rg b) : ii a ≤ ii b ↔ a ≤ b := by
  rw [Int32.le_iff_toInt_le, ii_t ha, ii_t hb]
theorem ii_lt {a b : Int} (ha : rg a) (hb : rg b) : ii a < ii b ↔ a < b := by
  rw [Int32.lt_iff_toInt_lt, ii_t ha, ii_t hb]
theorem ii_nat (n : Nat) : Int32.ofNat n = ii n := Int32.ofInt_eq_ofNat.symm
theorem ii_cl {z : Int} (h0 : 0 ≤ z) (h1 : z ≤ 2147483647) : (ii z).toNatClampNeg = z.toNat := Int32.toNatClampNeg_ofInt_of_le (by omega) (by omega)
theorem rg0 : rg 0 := ⟨by decide, by decide⟩
theorem ii_in {z : Int} {n : Nat} (h0 : 0 ≤ z) (h1 : z < n) (hn : n ≤ 2147483647) : vp_in (ii z) n := by
  rw [vp_in_iff, ii_t ⟨by omega, by omega⟩]
  exact ⟨h0, h1⟩
theorem ii_div {a b : Int} (ha : 0 ≤ a) (ha2 : a ≤ 2147483647) (hb : 0 < b) (hb2 : b ≤ 2147483647) : ii a / ii b = ii (a / b) := by
  have q0 : 0 ≤ a / b := Int.ediv_nonneg ha (Int.le_of_lt hb)
  have q1 : a / b ≤ a := Int.ediv_le_self b ha
  rw [← Int32.toInt_inj, Int32.toInt_div, ii_t ⟨by omega, by omega⟩, ii_t ⟨by omega, by omega⟩, ii_t ⟨by omega, by omega⟩, Int.tdiv_eq_ediv_of_nonneg ha]
  exact Int.bmod_eq_of_le (by omega) (by omega)
theorem ii_rem {a b : Int} (ha : 0 ≤ a) (ha2 : a ≤ 2147483647) (hb : 0 < b) (hb2 : b ≤ 2147483647) : ii a - ii a / ii b * ii b = ii (a % b) := by
  rw [ii_div ha ha2 hb hb2, ii_mul, ii_sub, Int.emod_def, Int.mul_comm]
-- Int64
def ll (z : Int) : Int64 := Int64.ofInt z
def rl (z : Int) : Prop := -9223372036854775808 ≤ z ∧ z ≤ 9223372036854775807
theorem ll_t {z : Int} (h : rl z) : (ll z).toInt = z := Int64.toInt_ofInt_of_le (by have := h.1; omega) (by have := h.2; omega)
theorem ll_eq {a b : Int} (ha : rl a) (hb : rl b) : ll a = ll b ↔ a = b := by
  rw [← Int64.toInt_inj, ll_t ha, ll_t hb]
theorem ll_le {a b : Int} (ha : rl a) (hb : rl b) : ll a ≤ ll b ↔ a ≤ b := by
  rw [Int64.le_iff_toInt_le, ll_t ha, ll_t hb]
theorem ll_lt {a b : Int} (ha : rl a) (hb : rl b) : ll a < ll b ↔ a < b := by
  rw [Int64.lt_iff_toInt_lt, ll_t ha, ll_t hb]
theorem ll_i {z : Int} (h : rg z) : (ii z).toInt64 = ll z := by
  have h1 := h.1
  have h2 := h.2
  rw [← Int64.toInt_inj, Int32.toInt_toInt64, ii_t h, ll_t ⟨by omega, by omega⟩]
theorem ii_l (z : Int) : (ll z).toInt32 = ii z := Int64.toInt32_ofInt
-- ===== memories and cells =====
/-- the contents of an array of ints, booleans, bytes, shorts by a function of the integers -/
def fa (g : Int → Int) : Nat → Int32 := fun j => ii (g j)
def fl (g : Int → Int) : Nat → Int64 := fun j => ll (g j)
/-- one place of an array is set -/
def ug (g : Int → Int) (k v : Int) : Int → Int := fun i => if i = k then v else g i
theorem ug_s (g : Int → Int) (k v : Int) : ug g k v k = v := if_pos rfl
theorem ug_n {g : Int → Int} {k v i : Int} (h : i ≠ k) : ug g k v i = g i := if_neg h
/-- one number, wherever it is asked for -/
def sc (v : Int) : Int → Int := fun _ => v
/-- one cell of a memory is set -/
def up (σ : Nat → Int → Int) (c : Nat) (g : Int → Int) : Nat → Int → Int := fun d => bif Nat.beq d c then g else σ d
theorem up_s (σ : Nat → Int → Int) (c : Nat) (g : Int → Int) : up σ c g c = g := by simp [up]
theorem up_n (σ : Nat → Int → Int) {c d : Nat} (g : Int → Int) (h : d ≠ c) : up σ c g d = σ d := by
  have : Nat.beq d c = false := by
    cases h' : Nat.beq d c with
    | true => exact absurd (Nat.eq_of_beq_eq_true h') h
    | false => rfl
  simp [up, this]
theorem fa_at (g : Int → Int) {E : Int} (h0 : 0 ≤ E) (h1 : E ≤ 2147483647) : fa g (ii E).toNatClampNeg = ii (g E) := by
  rw [ii_cl h0 h1]
  show ii (g _) = _
  rw [Int.toNat_of_nonneg h0]
theorem fl_at (g : Int → Int) {E : Int} (h0 : 0 ≤ E) (h1 : E ≤ 2147483647) : fl g (ii E).toNatClampNeg = ll (g E) := by
  rw [ii_cl h0 h1]
  show ll (g _) = _
  rw [Int.toNat_of_nonneg h0]
theorem fa_up (g : Int → Int) {E : Int} (v : Int) (h0 : 0 ≤ E) (h1 : E ≤ 2147483647) : upd (fa g) (ii E).toNatClampNeg (ii v) = fa (ug g E v) := by
  rw [ii_cl h0 h1]
  funext j
  by_cases h : j = E.toNat
  · subst h
    have e : ((E.toNat : Nat) : Int) = E := Int.toNat_of_nonneg h0
    simp [upd, fa, ug, e]
  · have e : ¬ (j : Int) = E := by omega
    simp [upd, fa, ug, h, e]
theorem fl_up (g : Int → Int) {E : Int} (v : Int) (h0 : 0 ≤ E) (h1 : E ≤ 2147483647) : vp_updL (fl g) (ii E).toNatClampNeg (ll v) = fl (ug g E v) := by
  rw [ii_cl h0 h1]
  funext j
  by_cases h : j = E.toNat
  · subst h
    have e : ((E.toNat : Nat) : Int) = E := Int.toNat_of_nonneg h0
    simp [vp_updL, fl, ug, e]
  · have e : ¬ (j : Int) = E := by omega
    simp [vp_updL, fl, ug, h, e]
theorem nar_z {v : Int} (h : v = 0 ∨ v = 1) : vp_nar .boolean (ii v) = ii v := by
  rcases h with rfl | rfl <;> decide
theorem nrw_z {v : Int} (h : v = 0 ∨ v = 1) : narrow .boolean (.int (ii v)) = .int (ii v) := by
  rcases h with rfl | rfl <;> decide
-- ===== rows over the integers =====
section LI
variable {p : Program} {l : Launch} {e : Env} {R : Room} {s : State} {m : MethodId} {args : Array Value} {below : List Frame} {meth : Method} {c : Code} {H : Heap} {locs : List Loc} {cells slots : Nat} {Q : State → Prop}
variable {cc : ByteArray} {pc : Nat} {ls : Array Slot} {rest : List Value}
theorem li_iconst (hx : p.tables.exec = Jvm.exec) (hb : c.code = cc) {n : Int} (d : decode cc pc = .ok (.iconst n, 1)) (k : W p l e R s m args below meth c H locs cells slots Q (F0 m (pc + 1) ls (.int (ii n) :: rest))) : W p l e R s m args below meth c H locs cells slots Q (F0 m pc ls rest) := lv_iconst hx hb d rfl k
theorem li_bipush (hx : p.tables.exec = Jvm.exec) (hb : c.code = cc) {n : Int} (d : decode cc pc = .ok (.bipush n, 2)) (hv : (Int8.ofInt n).toInt32 = ii n) (k : W p l e R s m args below meth c H locs cells slots Q (F0 m (pc + 2) ls (.int (ii n) :: rest))) : W p l e R s m args below meth c H locs cells slots Q (F0 m pc ls rest) := lv_bipush hx hb d hv k
theorem li_sipush (hx : p.tables.exec = Jvm.exec) (hb : c.code = cc) {n : Int} (d : decode cc pc = .ok (.sipush n, 3)) (hv : (Int16.ofInt n).toInt32 = ii n) (k : W p l e R s m args below meth c H locs cells slots Q (F0 m (pc + 3) ls (.int (ii n) :: rest))) : W p l e R s m args below meth c H locs cells slots Q (F0 m pc ls rest) := lv_sipush hx hb d hv k
theorem li_top {a b : Int} (h : a = b) (k : W p l e R s m args below meth c H locs cells slots Q (F0 m pc ls (.int (ii b) :: rest))) : W p l e R s m args below meth c H locs cells slots Q (F0 m pc ls (.int (ii a) :: rest)) := by rw [h]; exact k
theorem li_add (hx : p.tables.exec = Jvm.exec) (hb : c.code = cc) {a b : Int} (d : decode cc pc = .ok (.iadd, 1)) (k : W p l e R s m args below meth c H locs cells slots Q (F0 m (pc + 1) ls (.int (ii (a + b)) :: rest))) : W p l e R s m args below meth c H locs cells slots Q (F0 m pc ls (.int (ii b) :: .int (ii a) :: rest)) := lv_iadd hx hb d (by rw [ii_add]; exact k)
theorem li_sub (hx : p.tables.exec = Jvm.exec) (hb : c.code = cc) {a b : Int} (d : decode cc pc = .ok (.isub, 1)) (k : W p l e R s m args below meth c H locs cells slots Q (F0 m (pc + 1) ls (.int (ii (a - b)) :: rest))) : W p l e R s m args below meth c H locs cells slots Q (F0 m pc ls (.int (ii b) :: .int (ii a) :: rest)) := lv_isub hx hb d (by rw [ii_sub]; exact k)
theorem li_mul (hx : p.tables.exec = Jvm.exec) (hb : c.code = cc) {a b : Int} (d : decode cc pc = .ok (.imul, 1)) (k : W p l e R s m args below meth c H locs cells slots Q (F0 m (pc + 1) ls (.int (ii (a * b)) :: rest))) : W p l e R s m args below meth c H locs cells slots Q (F0 m pc ls (.int (ii b) :: .int (ii a) :: rest)) := lv_imul hx hb d (by rw [ii_mul]; exact k)
theorem li_neg (hx : p.tables.exec = Jvm.exec) (hb : c.code = cc) {a : Int} (d : decode cc pc = .ok (.ineg, 1)) (k : W p l e R s m args below meth c H locs cells slots Q (F0 m (pc + 1) ls (.int (ii (-a)) :: rest))) : W p l e R s m args below meth c H locs cells slots Q (F0 m pc ls (.int (ii a) :: rest)) := lv_ineg hx hb d (by rw [ii_neg]; exact k)
theorem li_div (hx : p.tables.exec = Jvm.exec) (hb : c.code = cc) {a b : Int} (ha : 0 ≤ a) (ha2 : a ≤ 2147483647) (hb1 : 0 < b) (hb2 : b ≤ 2147483647) (d : decode cc pc = .ok (.idiv, 1)) (k : W p l e R s m args below meth c H locs cells slots Q (F0 m (pc + 1) ls (.int (ii (a / b)) :: rest))) : W p l e R s m args below meth c H locs cells slots Q (F0 m pc ls (.int (ii b) :: .int (ii a) :: rest)) :=
  lv_idiv hx hb d (fun h => by rw [ii_0, ii_eq ⟨by omega, by omega⟩ rg0] at h; omega) (by rw [ii_div ha ha2 hb1 hb2]; exact k)
theorem li_rem (hx : p.tables.exec = Jvm.exec) (hb : c.code = cc) {a b : Int} (ha : 0 ≤ a) (ha2 : a ≤ 2147483647) (hb1 : 0 < b) (hb2 : b ≤ 2147483647) (d : decode cc pc = .ok (.irem, 1)) (k : W p l e R s m args below meth c H locs cells slots Q (F0 m (pc + 1) ls (.int (ii (a % b)) :: rest))) : W p l e R s m args below meth c H locs cells slots Q (F0 m pc ls (.int (ii b) :: .int (ii a) :: rest)) :=
  lv_irem hx hb d (fun h => by rw [ii_0, ii_eq ⟨by omega, by omega⟩ rg0] at h; omega) (by rw [ii_rem ha ha2 hb1 hb2]; exact k)
theorem li_iinc (hx : p.tables.exec = Jvm.exec) (hb : c.code = cc) {i nL k : Nat} {n a : Int} {lv lv' : List (Nat × Value)} (d : decode cc pc = .ok (.iinc i n, 3)) (h : lv_has ls nL lv) (hk : lv[k]? = some (i, .int (ii a))) (hn : i < nL) (hl : (i, Value.int (ii (a + n))) :: lv.filter (fun q => !(q.1 == i) && !(q.1 + 1 == i && q.2.category == 2)) = lv')
    (kk : ∀ ls' : Array Slot, lv_has ls' nL lv' → W p l e R s m args below meth c H locs cells slots Q (F0 m (pc + 3) ls' rest)) : W p l e R s m args below meth c H locs cells slots Q (F0 m pc ls rest) := lv_iinc hx hb d h hk (ii_add a n) hn hl kk
theorem li_if_eq (hx : p.tables.exec = Jvm.exec) (hb : c.code = cc) {a : Int} (ha : rg a) {off : Int} {tgt : Nat} (d : decode cc pc = .ok (.ifCond .eq off, 3)) (ht : (pc : Int) + off = (tgt : Int)) (kt : a = 0 → W p l e R s m args below meth c H locs cells slots Q (F0 m tgt ls rest)) (kf : ¬ a = 0 → W p l e R s m args below meth c H locs cells slots Q (F0 m (pc + 3) ls rest)) : W p l e R s m args below meth c H locs cells slots Q (F0 m pc ls (.int (ii a) :: rest)) := lv_if_eq hx hb d ht (fun h => kt ((ii_eq ha rg0).mp (h.trans ii_0))) (fun h => kf (fun q => h (by rw [q]; exact ii_0.symm)))
theorem li_if_ne (hx : p.tables.exec = Jvm.exec) (hb : c.code = cc) {a : Int} (ha : rg a) {off : Int} {tgt : Nat} (d : decode cc pc = .ok (.ifCond .ne off, 3)) (ht : (pc : Int) + off = (tgt : Int)) (kt : ¬ a = 0 → W p l e R s m args below meth c H locs cells slots Q (F0 m tgt ls rest)) (kf : a = 0 → W p l e R s m args below meth c H locs cells slots Q (F0 m (pc + 3) ls rest)) : W p l e R s m args below meth c H locs cells slots Q (F0 m pc ls (.int (ii a) :: rest)) := lv_if_ne hx hb d ht (fun h => kt (fun q => h (by rw [q]; exact ii_0.symm))) (fun h => kf ((ii_eq ha rg0).mp (h.trans ii_0)))
theorem li_if_lt (hx : p.tables.exec = Jvm.exec) (hb : c.code = cc) {a : Int} (ha : rg a) {off : Int} {tgt : Nat} (d : decode cc pc = .ok (.ifCond .lt off, 3)) (ht : (pc : Int) + off = (tgt : Int)) (kt : a < 0 → W p l e R s m args below meth c H locs cells slots Q (F0 m tgt ls rest)) (kf : 0 ≤ a → W p l e R s m args below meth c H locs cells slots Q (F0 m (pc + 3) ls rest)) : W p l e R s m args below meth c H locs cells slots Q (F0 m pc ls (.int (ii a) :: rest)) := lv_if_lt hx hb d ht (fun h => kt ((ii_lt ha rg0).mp (by rw [← ii_0]; exact h))) (fun h => kf (Int.not_lt.mp (fun q => h (by rw [ii_0]; exact (ii_lt ha rg0).mpr q))))
theorem li_if_ge (hx : p.tables.exec = Jvm.exec) (hb : c.code = cc) {a : Int} (ha : rg a) {off : Int} {tgt : Nat} (d : decode cc pc = .ok (.ifCond .ge off, 3)) (ht : (pc : Int) + off = (tgt : Int)) (kt : 0 ≤ a → W p l e R s m args below meth c H locs cells slots Q (F0 m tgt ls rest)) (kf : a < 0 → W p l e R s m args below meth c H locs cells slots Q (F0 m (pc + 3) ls rest)) : W p l e R s m args below meth c H locs cells slots Q (F0 m pc ls (.int (ii a) :: rest)) := lv_if_ge hx hb d ht (fun h => kt ((ii_le rg0 ha).mp (by rw [← ii_0]; exact h))) (fun h => kf (Int.not_le.mp (fun q => h (by rw [ii_0]; exact (ii_le rg0 ha).mpr q))))
theorem li_if_gt (hx : p.tables.exec = Jvm.exec) (hb : c.code = cc) {a : Int} (ha : rg a) {off : Int} {tgt : Nat} (d : decode cc pc = .ok (.ifCond .gt off, 3)) (ht : (pc : Int) + off = (tgt : Int)) (kt : 0 < a → W p l e R s m args below meth c H locs cells slots Q (F0 m tgt ls rest)) (kf : a ≤ 0 → W p l e R s m args below meth c H locs cells slots Q (F0 m (pc + 3) ls rest)) : W p l e R s m args below meth c H locs cells slots Q (F0 m pc ls (.int (ii a) :: rest)) := lv_if_gt hx hb d ht (fun h => kt ((ii_lt rg0 ha).mp (by rw [← ii_0]; exact h))) (fun h => kf (Int.not_lt.mp (fun q => h (by rw [ii_0]; exact (ii_lt rg0 ha).mpr q))))
theorem li_if_le (hx : p.tables.exec = Jvm.exec) (hb : c.code = cc) {a : Int} (ha : rg a) {off : Int} {tgt : Nat} (d : decode cc pc = .ok (.ifCond .le off, 3)) (ht : (pc : Int) + off = (tgt : Int)) (kt : a ≤ 0 → W p l e R s m args below meth c H locs cells slots Q (F0 m tgt ls rest)) (kf : 0 < a → W p l e R s m args below meth c H locs cells slots Q (F0 m (pc + 3) ls rest)) : W p l e R s m args below meth c H locs cells slots Q (F0 m pc ls (.int (ii a) :: rest)) := lv_if_le hx hb d ht (fun h => kt ((ii_le ha rg0).mp (by rw [← ii_0]; exact h))) (fun h => kf (Int.not_le.mp (fun q => h (by rw [ii_0]; exact (ii_le ha rg0).mpr q))))
theorem li_icmp_eq (hx : p.tables.exec = Jvm.exec) (hb : c.code = cc) {a b : Int} (ha : rg a) (hb1 : rg b) {off : Int} {tgt : Nat} (d : decode cc pc = .ok (.if_icmp .eq off, 3)) (ht : (pc : Int) + off = (tgt : Int)) (kt : a = b → W p l e R s m args below meth c H locs cells slots Q (F0 m tgt ls rest)) (kf : ¬ a = b → W p l e R s m args below meth c H locs cells slots Q (F0 m (pc + 3) ls rest)) : W p l e R s m args below meth c H locs cells slots Q (F0 m pc ls (.int (ii b) :: .int (ii a) :: rest)) := lv_icmp_eq hx hb d ht (fun h => kt ((ii_eq ha hb1).mp h)) (fun h => kf (fun q => h (by rw [q])))
theorem li_icmp_ne (hx : p.tables.exec = Jvm.exec) (hb : c.code = cc) {a b : Int} (ha : rg a) (hb1 : rg b) {off : Int} {tgt : Nat} (d : decode cc pc = .ok (.if_icmp .ne off, 3)) (ht : (pc : Int) + off = (tgt : Int)) (kt : ¬ a = b → W p l e R s m args below meth c H locs cells slots Q (F0 m tgt ls rest)) (kf : a = b → W p l e R s m args below meth c H locs cells slots Q (F0 m (pc + 3) ls rest)) : W p l e R s m args below meth c H locs cells slots Q (F0 m pc ls (.int (ii b) :: .int (ii a) :: rest)) := lv_icmp_ne hx hb d ht (fun h => kt (fun q => h (by rw [q]))) (fun h => kf ((ii_eq ha hb1).mp h))
theorem li_icmp_lt (hx : p.tables.exec = Jvm.exec) (hb : c.code = cc) {a b : Int} (ha : rg a) (hb1 : rg b) {off : Int} {tgt : Nat} (d : decode cc pc = .ok (.if_icmp .lt off, 3)) (ht : (pc : Int) + off = (tgt : Int)) (kt : a < b → W p l e R s m args below meth c H locs cells slots Q (F0 m tgt ls rest)) (kf : b ≤ a → W p l e R s m args below meth c H locs cells slots Q (F0 m (pc + 3) ls rest)) : W p l e R s m args below meth c H locs cells slots Q (F0 m pc ls (.int (ii b) :: .int (ii a) :: rest)) := lv_icmp_lt hx hb d ht (fun h => kt ((ii_lt ha hb1).mp h)) (fun h => kf (Int.not_lt.mp (fun q => h ((ii_lt ha hb1).mpr q))))
theorem li_icmp_ge (hx : p.tables.exec = Jvm.exec) (hb : c.code = cc) {a b : Int} (ha : rg a) (hb1 : rg b) {off : Int} {tgt : Nat} (d : decode cc pc = .ok (.if_icmp .ge off, 3)) (ht : (pc : Int) + off = (tgt : Int)) (kt : b ≤ a → W p l e R s m args below meth c H locs cells slots Q (F0 m tgt ls rest)) (kf : a < b → W p l e R s m args below meth c H locs cells slots Q (F0 m (pc + 3) ls rest)) : W p l e R s m args below meth c H locs cells slots Q (F0 m pc ls (.int (ii b) :: .int (ii a) :: rest)) := lv_icmp_ge hx hb d ht (fun h => kt ((ii_le hb1 ha).mp h)) (fun h => kf (Int.not_le.mp (fun q => h ((ii_le hb1 ha).mpr q))))
theorem li_icmp_gt (hx : p.tables.exec = Jvm.exec) (hb : c.code = cc) {a b : Int} (ha : rg a) (hb1 : rg b) {off : Int} {tgt : Nat} (d : decode cc pc = .ok (.if_icmp .gt off, 3)) (ht : (pc : Int) + off = (tgt : Int)) (kt : b < a → W p l e R s m args below meth c H locs cells slots Q (F0 m tgt ls rest)) (kf : a ≤ b → W p l e R s m args below meth c H locs cells slots Q (F0 m (pc + 3) ls rest)) : W p l e R s m args below meth c H locs cells slots Q (F0 m pc ls (.int (ii b) :: .int (ii a) :: rest)) := lv_icmp_gt hx hb d ht (fun h => kt ((ii_lt hb1 ha).mp h)) (fun h => kf (Int.not_lt.mp (fun q => h ((ii_lt hb1 ha).mpr q))))
theorem li_icmp_le (hx : p.tables.exec = Jvm.exec) (hb : c.code = cc) {a b : Int} (ha : rg a) (hb1 : rg b) {off : Int} {tgt : Nat} (d : decode cc pc = .ok (.if_icmp .le off, 3)) (ht : (pc : Int) + off = (tgt : Int)) (kt : a ≤ b → W p l e R s m args below meth c H locs cells slots Q (F0 m tgt ls rest)) (kf : b < a → W p l e R s m args below meth c H locs cells slots Q (F0 m (pc + 3) ls rest)) : W p l e R s m args below meth c H locs cells slots Q (F0 m pc ls (.int (ii b) :: .int (ii a) :: rest)) := lv_icmp_le hx hb d ht (fun h => kt ((ii_le ha hb1).mp h)) (fun h => kf (Int.not_le.mp (fun q => h ((ii_le ha hb1).mpr q))))
-- arrays
variable {D : va_G} {cl : List vw_C} {A : Nat → Prop} {a : Nat} {tys : List (ClassId × FieldType)} {ws : va_W} {H0 : Heap}
theorem li_iald (hx : p.tables.exec = Jvm.exec) (hb : c.code = cc) (hK : va_K D cl tys s) (hP : va_P D cl ws H) (q0 t0 : Nat) {cA : ClassId} {n : Nat} {g : Int → Int} {E : Int} (ha : ws[q0]? = some (a, .inl (cA, n, .inl (fa g)))) (ht : tys[t0]? = some (cA, .int)) (h0 : 0 ≤ E) (h1 : E < n) (hn : n ≤ 2147483647) (d : decode cc pc = .ok (.iaload, 1))
    (k : W p l e R s m args below meth c H locs cells slots Q (F0 m (pc + 1) ls (.int (ii (g E)) :: rest))) : W p l e R s m args below meth c H locs cells slots Q (F0 m pc ls (.int (ii E) :: .ref a :: rest)) :=
  va_iald hx hb hK hP q0 t0 ha ht (ii_in h0 h1 hn) d (by rw [fa_at g h0 (by omega)]; exact k)
theorem li_zald (hx : p.tables.exec = Jvm.exec) (hb : c.code = cc) (hK : va_K D cl tys s) (hP : va_P D cl ws H) (q0 t0 : Nat) {cA : ClassId} {n : Nat} {g : Int → Int} {E : Int} (ha : ws[q0]? = some (a, .inl (cA, n, .inl (fa g)))) (ht : tys[t0]? = some (cA, .boolean)) (h0 : 0 ≤ E) (h1 : E < n) (hn : n ≤ 2147483647) (d : decode cc pc = .ok (.baload, 1))
    (k : W p l e R s m args below meth c H locs cells slots Q (F0 m (pc + 1) ls (.int (ii (g E)) :: rest))) : W p l e R s m args below meth c H locs cells slots Q (F0 m pc ls (.int (ii E) :: .ref a :: rest)) :=
  va_zald hx hb hK hP q0 t0 ha ht (ii_in h0 h1 hn) d (by rw [fa_at g h0 (by omega)]; exact k)
theorem li_bald (hx : p.tables.exec = Jvm.exec) (hb : c.code = cc) (hK : va_K D cl tys s) (hP : va_P D cl ws H) (q0 t0 : Nat) {cA : ClassId} {n : Nat} {g : Int → Int} {E : Int} (ha : ws[q0]? = some (a, .inl (cA, n, .inl (fa g)))) (ht : tys[t0]? = some (cA, .byte)) (h0 : 0 ≤ E) (h1 : E < n) (hn : n ≤ 2147483647) (d : decode cc pc = .ok (.baload, 1))
    (k : W p l e R s m args below meth c H locs cells slots Q (F0 m (pc + 1) ls (.int (ii (g E)) :: rest))) : W p l e R s m args below meth c H locs cells slots Q (F0 m pc ls (.int (ii E) :: .ref a :: rest)) :=
  va_bald hx hb hK hP q0 t0 ha ht (ii_in h0 h1 hn) d (by rw [fa_at g h0 (by omega)]; exact k)
theorem li_sald (hx : p.tables.exec = Jvm.exec) (hb : c.code = cc) (hK : va_K D cl tys s) (hP : va_P D cl ws H) (q0 t0 : Nat) {cA : ClassId} {n : Nat} {g : Int → Int} {E : Int} (ha : ws[q0]? = some (a, .inl (cA, n, .inl (fa g)))) (ht : tys[t0]? = some (cA, .short)) (h0 : 0 ≤ E) (h1 : E < n) (hn : n ≤ 2147483647) (d : decode cc pc = .ok (.saload, 1))
    (k : W p l e R s m args below meth c H locs cells slots Q (F0 m (pc + 1) ls (.int (ii (g E)) :: rest))) : W p l e R s m args below meth c H locs cells slots Q (F0 m pc ls (.int (ii E) :: .ref a :: rest)) :=
  va_sald hx hb hK hP q0 t0 ha ht (ii_in h0 h1 hn) d (by rw [fa_at g h0 (by omega)]; exact k)
theorem li_lald (hx : p.tables.exec = Jvm.exec) (hb : c.code = cc) (hK : va_K D cl tys s) (hP : va_P D cl ws H) (q0 t0 : Nat) {cA : ClassId} {n : Nat} {g : Int → Int} {E : Int} (ha : ws[q0]? = some (a, .inl (cA, n, .inr (.inl (fl g))))) (ht : tys[t0]? = some (cA, .long)) (h0 : 0 ≤ E) (h1 : E < n) (hn : n ≤ 2147483647) (d : decode cc pc = .ok (.laload, 1))
    (k : W p l e R s m args below meth c H locs cells slots Q (F0 m (pc + 1) ls (.long (ll (g E)) :: rest))) : W p l e R s m args below meth c H locs cells slots Q (F0 m pc ls (.int (ii E) :: .ref a :: rest)) :=
  va_lald hx hb hK hP q0 t0 ha ht (ii_in h0 h1 hn) d (by rw [fl_at g h0 (by omega)]; exact k)
theorem li_iast (hx : p.tables.exec = Jvm.exec) (hb : c.code = cc) (hK : va_K D cl tys s) (hP : va_P D cl ws H) (hD : va_D A ws) (hS : va_S A H0 H locs) (q0 t0 : Nat) {cA : ClassId} {n : Nat} {g : Int → Int} {E v : Int} {W2 : va_W} (ha : ws[q0]? = some (a, .inl (cA, n, .inl (fa g)))) (ht : tys[t0]? = some (cA, .int)) (h0 : 0 ≤ E) (h1 : E < n) (hn : n ≤ 2147483647) (hW : ws.set q0 (a, .inl (cA, n, .inl (fa (ug g E v)))) = W2) (d : decode cc pc = .ok (.iastore, 1))
    (kk : ∀ (H1 : Heap) (locs1 : List Loc), va_P D cl W2 H1 → va_D A W2 → va_S A H0 H1 locs1 → W p l e R s m args below meth c H1 locs1 cells slots Q (F0 m (pc + 1) ls rest)) : W p l e R s m args below meth c H locs cells slots Q (F0 m pc ls (.int (ii v) :: .int (ii E) :: .ref a :: rest)) := by
  subst hW
  refine va_iast hx hb hK hP hD hS q0 t0 ha ht (ii_in h0 h1 hn) d fun H1 locs1 hP1 hD1 hS1 => ?_
  rw [fa_up g v h0 (by omega)] at hP1 hD1
  exact kk H1 locs1 hP1 hD1 hS1
theorem li_zast (hx : p.tables.exec = Jvm.exec) (hb : c.code = cc) (hK : va_K D cl tys s) (hP : va_P D cl ws H) (hD : va_D A ws) (hS : va_S A H0 H locs) (q0 t0 : Nat) {cA : ClassId} {n : Nat} {g : Int → Int} {E v : Int} {W2 : va_W} (ha : ws[q0]? = some (a, .inl (cA, n, .inl (fa g)))) (ht : tys[t0]? = some (cA, .boolean)) (h0 : 0 ≤ E) (h1 : E < n) (hn : n ≤ 2147483647) (hz : v = 0 ∨ v = 1) (hW : ws.set q0 (a, .inl (cA, n, .inl (fa (ug g E v)))) = W2) (d : decode cc pc = .ok (.bastore, 1))
    (kk : ∀ (H1 : Heap) (locs1 : List Loc), va_P D cl W2 H1 → va_D A W2 → va_S A H0 H1 locs1 → W p l e R s m args below meth c H1 locs1 cells slots Q (F0 m (pc + 1) ls rest)) : W p l e R s m args below meth c H locs cells slots Q (F0 m pc ls (.int (ii v) :: .int (ii E) :: .ref a :: rest)) := by
  subst hW
  refine va_zast hx hb hK hP hD hS q0 t0 ha ht (ii_in h0 h1 hn) d fun H1 locs1 hP1 hD1 hS1 => ?_
  rw [nar_z hz, fa_up g v h0 (by omega)] at hP1 hD1
  exact kk H1 locs1 hP1 hD1 hS1
theorem li_last (hx : p.tables.exec = Jvm.exec) (hb : c.code = cc) (hK : va_K D cl tys s) (hP : va_P D cl ws H) (hD : va_D A ws) (hS : va_S A H0 H locs) (q0 t0 : Nat) {cA : ClassId} {n : Nat} {g : Int → Int} {E v : Int} {W2 : va_W} (ha : ws[q0]? = some (a, .inl (cA, n, .inr (.inl (fl g))))) (ht : tys[t0]? = some (cA, .long)) (h0 : 0 ≤ E) (h1 : E < n) (hn : n ≤ 2147483647) (hW : ws.set q0 (a, .inl (cA, n, .inr (.inl (fl (ug g E v))))) = W2) (d : decode cc pc = .ok (.lastore, 1))
    (kk : ∀ (H1 : Heap) (locs1 : List Loc), va_P D cl W2 H1 → va_D A W2 → va_S A H0 H1 locs1 → W p l e R s m args below meth c H1 locs1 cells slots Q (F0 m (pc + 1) ls rest)) : W p l e R s m args below meth c H locs cells slots Q (F0 m pc ls (.long (ll v) :: .int (ii E) :: .ref a :: rest)) := by
  subst hW
  refine va_last hx hb hK hP hD hS q0 t0 ha ht (ii_in h0 h1 hn) d fun H1 locs1 hP1 hD1 hS1 => ?_
  rw [fl_up g v h0 (by omega)] at hP1 hD1
  exact kk H1 locs1 hP1 hD1 hS1
theorem li_alen (hx : p.tables.exec = Jvm.exec) (hb : c.code = cc) (hK : va_K D cl tys s) (hP : va_P D cl ws H) (q0 t0 : Nat) {cA : ClassId} {x : vp_A} (ha : ws[q0]? = some (a, .inl (cA, x))) {ty : FieldType} (ht : tys[t0]? = some (cA, ty)) (d : decode cc pc = .ok (.arraylength, 1))
    (k : W p l e R s m args below meth c H locs cells slots Q (F0 m (pc + 1) ls (.int (ii x.1) :: rest))) : W p l e R s m args below meth c H locs cells slots Q (F0 m pc ls (.ref a :: rest)) := va_alen hx hb hK hP q0 t0 ha ht (ii_nat _) d k
end LI
