/-! a text read, pure (written by hand) -/
set_option maxRecDepth 100000
theorem ii_and255 (z : Int) : ii z &&& ii 255 = ii (z % 256) := by
  have h0 : 0 ≤ z % 256 := Int.emod_nonneg z (by decide)
  have h1 : z % 256 < 256 := Int.emod_lt_of_pos z (by decide)
  apply Int32.toBitVec_inj.mp
  rw [Int32.toBitVec_and]
  apply BitVec.eq_of_toNat_eq
  rw [BitVec.toNat_and]
  have e1 : (ii z).toBitVec.toNat = (z % 4294967296).toNat := by
    show (BitVec.ofInt 32 z).toNat = _
    rw [BitVec.toNat_ofInt]
    rfl
  have e2 : (ii 255).toBitVec.toNat = 2 ^ 8 - 1 := by decide
  have e3 : (ii (z % 256)).toBitVec.toNat = ((z % 256) % 4294967296).toNat := by
    show (BitVec.ofInt 32 (z % 256)).toNat = _
    rw [BitVec.toNat_ofInt]
    rfl
  rw [e1, e2, e3, Nat.and_two_pow_sub_one_eq_mod]
  omega
/-- the sign at a place of a text of n bytes, -1 behind its end -/
def hrd (g : Int → Int) (n a : Int) : Int := if n ≤ a then -1 else g a % 256
theorem hrd_b (g : Int → Int) (n a : Int) : -1 ≤ hrd g n a ∧ hrd g n a ≤ 255 := by unfold hrd; omega
theorem hrd_lt {g : Int → Int} {n a : Int} (h : 0 ≤ hrd g n a) : a < n := by unfold hrd at h; omega
theorem hrd_eq {g : Int → Int} {n a : Int} (h : a < n) (h0 : -128 ≤ g a) (h1 : g a ≤ 127) (h2 : 0 ≤ hrd g n a) (h3 : hrd g n a ≤ 127) : g a = hrd g n a := by
  unfold hrd at *
  rw [if_neg (by omega)] at *
  omega
/-- a number's end and value, where a digit stands first -/
def nmE (u : Int → Int) (a : Int) : Int := if u a ≤ 48 then a + 1 else if 48 ≤ u (a + 1) ∧ u (a + 1) ≤ 57 then (if 48 ≤ u (a + 1 + 1) ∧ u (a + 1 + 1) ≤ 57 then a + 1 + 1 + 1 else a + 1 + 1) else a + 1
def nmV (u : Int → Int) (a : Int) : Int := if u a ≤ 48 then 0 else if 48 ≤ u (a + 1) ∧ u (a + 1) ≤ 57 then (if 48 ≤ u (a + 1 + 1) ∧ u (a + 1 + 1) ≤ 57 then 10 * (10 * (u a - 48) + u (a + 1) - 48) + u (a + 1 + 1) - 48 else 10 * (u a - 48) + u (a + 1) - 48) else u a - 48
theorem nmE_b (u : Int → Int) (a : Int) : a + 1 ≤ nmE u a ∧ nmE u a ≤ a + 3 := by unfold nmE; omega
theorem nmV_b {u : Int → Int} {a : Int} (h : 48 ≤ u a ∧ u a ≤ 57) : 0 ≤ nmV u a ∧ nmV u a ≤ 999 := by unfold nmV; omega
def isDg (u : Int → Int) (a : Int) : Prop := 48 ≤ u a ∧ u a ≤ 57
/-- where a statement of each letter breaks off (-1: nowhere) -/
def lB (u : Int → Int) (a : Int) : Int := if ¬ (48 ≤ u (a + 1) ∧ u (a + 1) ≤ 57) then a + 1 else if ¬ u (a + 1 + 1) = 32 then a + 1 + 1 else if ¬ (48 ≤ u (a + 1 + 1 + 1) ∧ u (a + 1 + 1 + 1) ≤ 57) then a + 1 + 1 + 1 else if ¬ u (a + 1 + 1 + 1 + 1) = 59 then a + 1 + 1 + 1 + 1 else -1
/-- the end of a drop's number, with its sign -/
def dE (u : Int → Int) (a : Int) : Int := if u (nmE u (a + 1 + 1 + 1)) = 99 then nmE u (a + 1 + 1 + 1) + 1 else nmE u (a + 1 + 1 + 1)
def dB (u : Int → Int) (a : Int) : Int := if ¬ (48 ≤ u (a + 1) ∧ u (a + 1) ≤ 57) then a + 1 else if ¬ u (a + 1 + 1) = 32 then a + 1 + 1 else if ¬ (48 ≤ u (a + 1 + 1 + 1) ∧ u (a + 1 + 1 + 1) ≤ 57) then a + 1 + 1 + 1 else if ¬ u (dE u a) = 59 then dE u a else -1
def pB (u : Int → Int) (a : Int) : Int := if ¬ (48 ≤ u (a + 1) ∧ u (a + 1) ≤ 57) then a + 1 else if ¬ (48 ≤ u (a + 1 + 1) ∧ u (a + 1 + 1) ≤ 57) then a + 1 + 1 else if ¬ u (a + 1 + 1 + 1) = 59 then a + 1 + 1 + 1 else -1
def rB (u : Int → Int) (a : Int) : Int := if ¬ (48 ≤ u (a + 1) ∧ u (a + 1) ≤ 57) then a + 1 else if ¬ u (nmE u (a + 1)) = 32 then nmE u (a + 1) else if ¬ (48 ≤ u (nmE u (a + 1) + 1) ∧ u (nmE u (a + 1) + 1) ≤ 57) then nmE u (a + 1) + 1 else if ¬ u (nmE u (a + 1) + 1 + 1) = 59 then nmE u (a + 1) + 1 + 1 else -1
def cB (u : Int → Int) (a : Int) : Int := if ¬ (48 ≤ u (a + 1) ∧ u (a + 1) ≤ 57) then a + 1 else if ¬ u (nmE u (a + 1)) = 59 then nmE u (a + 1) else -1
/-- where the statement at a place breaks off; behind it; its two numbers; its sign -/
def stB (u : Int → Int) (a : Int) : Int := if u a = 108 then lB u a else if u a = 100 then dB u a else if u a = 112 then pB u a else if u a = 114 then rB u a else if u a = 99 ∨ u a = 107 then cB u a else a
def stE (u : Int → Int) (a : Int) : Int := if u a = 108 then a + 1 + 1 + 1 + 1 + 1 else if u a = 100 then dE u a + 1 else if u a = 112 then a + 1 + 1 + 1 + 1 else if u a = 114 then nmE u (a + 1) + 1 + 1 + 1 else nmE u (a + 1) + 1
def stX (u : Int → Int) (a : Int) : Int := if u a = 108 ∨ u a = 100 ∨ u a = 112 then u (a + 1) - 48 else nmV u (a + 1)
def stY (u : Int → Int) (a : Int) : Int := if u a = 108 then u (a + 1 + 1 + 1) - 48 else if u a = 100 then nmV u (a + 1 + 1 + 1) else if u a = 112 then u (a + 1 + 1) - 48 else u (nmE u (a + 1) + 1) - 48
def stZ (u : Int → Int) (a : Int) : Int := if u a = 100 ∧ u (nmE u (a + 1 + 1 + 1)) = 99 then 1 else 0
theorem stB_l {u : Int → Int} {a : Int} (h : u a = 108) : stB u a = lB u a := if_pos h
theorem stB_d {u : Int → Int} {a : Int} (h : u a = 100) : stB u a = dB u a := by unfold stB; rw [if_neg (by omega), if_pos h]
theorem stB_p {u : Int → Int} {a : Int} (h : u a = 112) : stB u a = pB u a := by unfold stB; rw [if_neg (by omega), if_neg (by omega), if_pos h]
theorem stB_r {u : Int → Int} {a : Int} (h : u a = 114) : stB u a = rB u a := by unfold stB; rw [if_neg (by omega), if_neg (by omega), if_neg (by omega), if_pos h]
theorem stB_c {u : Int → Int} {a : Int} (h : u a = 99 ∨ u a = 107) : stB u a = cB u a := by unfold stB; rw [if_neg (by omega), if_neg (by omega), if_neg (by omega), if_neg (by omega), if_pos h]
theorem stB_o {u : Int → Int} {a : Int} (h : ¬ u a = 108 ∧ ¬ u a = 100 ∧ ¬ u a = 112 ∧ ¬ u a = 114 ∧ ¬ u a = 99 ∧ ¬ u a = 107) : stB u a = a := by unfold stB; rw [if_neg (by omega), if_neg (by omega), if_neg (by omega), if_neg (by omega), if_neg (by omega)]
