/-! THE TWO WORLDS, cell by cell (written by gen/worlds.py): wD the cells of a DownRope (σ what lasts, ς what is worked with, κ the spot behind a move and the parts of the kinds, hv what the shelves hold), wM those of a DownRopeModel (τ, ρ) -/
set_option maxRecDepth 100000
abbrev mem : Type := Nat → Int → Int
def wD (ad : Nat → Nat) (ty : Nat → ClassId) (hv : Nat → Option Nat) (σ ς κ : mem) : va_W :=
  [(ad 0, .inr (0, [.ref (ad 1), .ref (ad 11), .ref (ad 21), .int (ii (σ 60 0)), .ref (ad 31), .ref (ad 39), .ref (ad 40), .int (ii (ς 2 0)), .ref (ad 41), .int (ii (ς 5 0)), .ref (ad 44), .ref (ad 45), .int (ii (ς 8 0)), .ref (ad 46), .ref (ad 47), .ref (ad 48), .ref (ad 51), .int (ii (ς 15 0)), .ref (ad 54), .ref (ad 55), .ref (ad 56)])),
   (ad 1, .inr (1, [.ref (ad 2), .ref (ad 3), .ref (ad 4), .ref (ad 5), .int (ii (σ 8 0)), .ref (ad 6), .int (ii (σ 9 0)), .ref (ad 7), .int (ii (σ 10 0)), .int (ii (σ 11 0)), .int (ii (σ 12 0)), .int (ii (σ 13 0)), .ref (ad 8)])),
   (ad 2, .inl (ty 0, 5, .inl (fa (σ 0)))),
   (ad 3, .inl (ty 0, 5, .inl (fa (σ 1)))),
   (ad 4, .inl (ty 0, 5, .inl (fa (σ 2)))),
   (ad 5, .inl (ty 1, 5, .inl (fa (σ 3)))),
   (ad 6, .inl (ty 0, 3, .inl (fa (σ 4)))),
   (ad 7, .inl (ty 0, 2, .inl (fa (σ 5)))),
   (ad 8, .inr (2, [.ref (ad 9), .ref (ad 10)])),
   (ad 9, .inl (ty 0, 3, .inl (fa (σ 6)))),
   (ad 10, .inl (ty 0, 2, .inl (fa (σ 7)))),
   (ad 11, .inr (1, [.ref (ad 12), .ref (ad 13), .ref (ad 14), .ref (ad 15), .int (ii (σ 28 0)), .ref (ad 16), .int (ii (σ 29 0)), .ref (ad 17), .int (ii (σ 30 0)), .int (ii (σ 31 0)), .int (ii (σ 32 0)), .int (ii (σ 33 0)), .ref (ad 18)])),
   (ad 12, .inl (ty 0, 5, .inl (fa (σ 20)))),
   (ad 13, .inl (ty 0, 5, .inl (fa (σ 21)))),
   (ad 14, .inl (ty 0, 5, .inl (fa (σ 22)))),
   (ad 15, .inl (ty 1, 5, .inl (fa (σ 23)))),
   (ad 16, .inl (ty 0, 3, .inl (fa (σ 24)))),
   (ad 17, .inl (ty 0, 2, .inl (fa (σ 25)))),
   (ad 18, .inr (2, [.ref (ad 19), .ref (ad 20)])),
   (ad 19, .inl (ty 0, 3, .inl (fa (σ 26)))),
   (ad 20, .inl (ty 0, 2, .inl (fa (σ 27)))),
   (ad 21, .inr (1, [.ref (ad 22), .ref (ad 23), .ref (ad 24), .ref (ad 25), .int (ii (σ 48 0)), .ref (ad 26), .int (ii (σ 49 0)), .ref (ad 27), .int (ii (σ 50 0)), .int (ii (σ 51 0)), .int (ii (σ 52 0)), .int (ii (σ 53 0)), .ref (ad 28)])),
   (ad 22, .inl (ty 0, 5, .inl (fa (σ 40)))),
   (ad 23, .inl (ty 0, 5, .inl (fa (σ 41)))),
   (ad 24, .inl (ty 0, 5, .inl (fa (σ 42)))),
   (ad 25, .inl (ty 1, 5, .inl (fa (σ 43)))),
   (ad 26, .inl (ty 0, 3, .inl (fa (σ 44)))),
   (ad 27, .inl (ty 0, 2, .inl (fa (σ 45)))),
   (ad 28, .inr (2, [.ref (ad 29), .ref (ad 30)])),
   (ad 29, .inl (ty 0, 3, .inl (fa (σ 46)))),
   (ad 30, .inl (ty 0, 2, .inl (fa (σ 47)))),
   (ad 31, .inl (ty 5, 7, .inr (.inr (.inr (.inr (fun j => some (ad (32 + j)))))))),
   (ad 32, .inr (4, [.int (ii (κ 20 0)), .int (ii (κ 21 0)), .int (ii (κ 22 0)), .int (ii (κ 23 0))])),
   (ad 33, .inr (5, [.int (ii (κ 24 0)), .int (ii (κ 25 0)), .int (ii (κ 26 0)), .int (ii (κ 27 0))])),
   (ad 34, .inr (6, [.int (ii (κ 28 0)), .int (ii (κ 29 0)), .int (ii (κ 30 0)), .int (ii (κ 31 0))])),
   (ad 35, .inr (7, [.int (ii (κ 32 0)), .int (ii (κ 33 0)), .int (ii (κ 34 0)), .int (ii (κ 35 0))])),
   (ad 36, .inr (8, [.int (ii (κ 36 0)), .int (ii (κ 37 0)), .int (ii (κ 38 0)), .int (ii (κ 39 0))])),
   (ad 37, .inr (9, [.int (ii (κ 40 0)), .int (ii (κ 41 0)), .int (ii (κ 42 0)), .int (ii (κ 43 0))])),
   (ad 38, .inr (10, [.int (ii (κ 44 0)), .int (ii (κ 45 0)), .int (ii (κ 46 0)), .int (ii (κ 47 0))])),
   (ad 39, .inl (ty 0, 400, .inl (fa (ς 0)))),
   (ad 40, .inl (ty 0, 400, .inl (fa (ς 1)))),
   (ad 41, .inr (2, [.ref (ad 42), .ref (ad 43)])),
   (ad 42, .inl (ty 0, 3, .inl (fa (ς 3)))),
   (ad 43, .inl (ty 0, 2, .inl (fa (ς 4)))),
   (ad 44, .inl (ty 0, 4500, .inl (fa (ς 6)))),
   (ad 45, .inl (ty 0, 4500, .inl (fa (ς 7)))),
   (ad 46, .inl (ty 1, 4500, .inl (fa (ς 9)))),
   (ad 47, .inl (ty 0, 4500, .inl (fa (ς 10)))),
   (ad 48, .inr (2, [.ref (ad 49), .ref (ad 50)])),
   (ad 49, .inl (ty 0, 3, .inl (fa (ς 11)))),
   (ad 50, .inl (ty 0, 2, .inl (fa (ς 12)))),
   (ad 51, .inr (2, [.ref (ad 52), .ref (ad 53)])),
   (ad 52, .inl (ty 0, 3, .inl (fa (κ 13)))),
   (ad 53, .inl (ty 0, 2, .inl (fa (κ 14)))),
   (ad 54, .inl (ty 1, 4500, .inl (fa (ς 16)))),
   (ad 55, .inl (ty 0, 4500, .inl (fa (ς 17)))),
   (ad 56, .inl (ty 6, 8, .inr (.inr (.inr (.inr (fun j => some (ad (57 + j)))))))),
   (ad 57, .inr (3, [va_rf (hv 0)])),
   (ad 58, .inr (3, [va_rf (hv 1)])),
   (ad 59, .inr (3, [va_rf (hv 2)])),
   (ad 60, .inr (3, [va_rf (hv 3)])),
   (ad 61, .inr (3, [va_rf (hv 4)])),
   (ad 62, .inr (3, [va_rf (hv 5)])),
   (ad 63, .inr (3, [va_rf (hv 6)])),
   (ad 64, .inr (3, [va_rf (hv 7)]))]
def wM (am : Nat → Nat) (ty : Nat → ClassId) (τ ρ : mem) : va_W :=
  [(am 0, .inr (11, [.int (ii (τ 0 0)), .ref (am 1), .ref (am 2), .ref (am 3), .ref (am 4), .int (ii (τ 5 0)), .ref (am 5), .int (ii (τ 7 0)), .ref (am 6), .ref (am 7), .ref (am 8), .int (ii (τ 11 0)), .int (ii (τ 12 0)), .int (ii (τ 13 0)), .int (ii (ρ 14 0)), .int (ii (ρ 15 0)), .int (ii (ρ 16 0)), .int (ii (ρ 17 0)), .int (ii (ρ 18 0)), .int (ii (ρ 19 0)), .ref (am 9), .ref (am 10), .ref (am 11), .ref (am 12), .ref (am 13), .ref (am 14), .ref (am 15), .ref (am 16), .ref (am 17), .ref (am 18), .int (ii (ρ 30 0)), .ref (am 19), .ref (am 20), .int (ii (ρ 33 0)), .ref (am 21), .ref (am 22), .int (ii (ρ 36 0)), .int (ii (ρ 37 0)), .ref (am 23), .ref (am 24), .ref (am 25), .ref (am 26), .int (ii (τ 42 0)), .ref (am 27), .int (ii (ρ 44 0)), .int (ii (ρ 45 0)), .ref (am 28), .ref (am 29), .ref (am 30), .ref (am 31), .ref (am 32), .ref (am 33)])),
   (am 1, .inl (ty 0, 5, .inl (fa (τ 1)))),
   (am 2, .inl (ty 0, 5, .inl (fa (τ 2)))),
   (am 3, .inl (ty 0, 5, .inl (fa (τ 3)))),
   (am 4, .inl (ty 1, 5, .inl (fa (τ 4)))),
   (am 5, .inl (ty 0, 3, .inl (fa (τ 6)))),
   (am 6, .inl (ty 0, 2, .inl (fa (τ 8)))),
   (am 7, .inl (ty 0, 3, .inl (fa (τ 9)))),
   (am 8, .inl (ty 0, 2, .inl (fa (τ 10)))),
   (am 9, .inl (ty 0, 50, .inl (fa (ρ 20)))),
   (am 10, .inl (ty 0, 50, .inl (fa (ρ 21)))),
   (am 11, .inl (ty 0, 50, .inl (fa (ρ 22)))),
   (am 12, .inl (ty 0, 50, .inl (fa (ρ 23)))),
   (am 13, .inl (ty 1, 50, .inl (fa (ρ 24)))),
   (am 14, .inl (ty 0, 5, .inl (fa (ρ 25)))),
   (am 15, .inl (ty 1, 5, .inl (fa (ρ 26)))),
   (am 16, .inl (ty 0, 3, .inl (fa (ρ 27)))),
   (am 17, .inl (ty 0, 2, .inl (fa (ρ 28)))),
   (am 18, .inl (ty 0, 2400, .inl (fa (ρ 29)))),
   (am 19, .inl (ty 0, 4500, .inl (fa (ρ 31)))),
   (am 20, .inl (ty 0, 4501, .inl (fa (ρ 32)))),
   (am 21, .inl (ty 0, 4500, .inl (fa (ρ 34)))),
   (am 22, .inl (ty 1, 4500, .inl (fa (ρ 35)))),
   (am 23, .inl (ty 1, 4500, .inl (fa (ρ 38)))),
   (am 24, .inl (ty 1, 4500, .inl (fa (ρ 39)))),
   (am 25, .inl (ty 1, 4500, .inl (fa (ρ 40)))),
   (am 26, .inl (ty 0, 4500, .inl (fa (ρ 41)))),
   (am 27, .inl (ty 0, 50, .inl (fa (τ 43)))),
   (am 28, .inl (ty 0, 8, .inl (fa (τ 46)))),
   (am 29, .inl (ty 0, 8, .inl (fa (τ 47)))),
   (am 30, .inl (ty 0, 8, .inl (fa (τ 48)))),
   (am 31, .inl (ty 0, 8, .inl (fa (τ 49)))),
   (am 32, .inl (ty 4, 800, .inr (.inl (fl (τ 50))))),
   (am 33, .inl (ty 4, 100, .inr (.inl (fl (ρ 51)))))]
theorem aD_0 (ad : Nat → Nat) (ty : Nat → ClassId) (hv : Nat → Option Nat) (σ ς κ : mem) (cs : va_W) : (wD ad ty hv σ ς κ ++ cs)[0]? = some (ad 0, .inr (0, [.ref (ad 1), .ref (ad 11), .ref (ad 21), .int (ii (σ 60 0)), .ref (ad 31), .ref (ad 39), .ref (ad 40), .int (ii (ς 2 0)), .ref (ad 41), .int (ii (ς 5 0)), .ref (ad 44), .ref (ad 45), .int (ii (ς 8 0)), .ref (ad 46), .ref (ad 47), .ref (ad 48), .ref (ad 51), .int (ii (ς 15 0)), .ref (ad 54), .ref (ad 55), .ref (ad 56)])) := rfl
theorem aD_1 (ad : Nat → Nat) (ty : Nat → ClassId) (hv : Nat → Option Nat) (σ ς κ : mem) (cs : va_W) : (wD ad ty hv σ ς κ ++ cs)[1]? = some (ad 1, .inr (1, [.ref (ad 2), .ref (ad 3), .ref (ad 4), .ref (ad 5), .int (ii (σ 8 0)), .ref (ad 6), .int (ii (σ 9 0)), .ref (ad 7), .int (ii (σ 10 0)), .int (ii (σ 11 0)), .int (ii (σ 12 0)), .int (ii (σ 13 0)), .ref (ad 8)])) := rfl
theorem aD_2 (ad : Nat → Nat) (ty : Nat → ClassId) (hv : Nat → Option Nat) (σ ς κ : mem) (cs : va_W) : (wD ad ty hv σ ς κ ++ cs)[2]? = some (ad 2, .inl (ty 0, 5, .inl (fa (σ 0)))) := rfl
theorem aD_3 (ad : Nat → Nat) (ty : Nat → ClassId) (hv : Nat → Option Nat) (σ ς κ : mem) (cs : va_W) : (wD ad ty hv σ ς κ ++ cs)[3]? = some (ad 3, .inl (ty 0, 5, .inl (fa (σ 1)))) := rfl
theorem aD_4 (ad : Nat → Nat) (ty : Nat → ClassId) (hv : Nat → Option Nat) (σ ς κ : mem) (cs : va_W) : (wD ad ty hv σ ς κ ++ cs)[4]? = some (ad 4, .inl (ty 0, 5, .inl (fa (σ 2)))) := rfl
theorem aD_5 (ad : Nat → Nat) (ty : Nat → ClassId) (hv : Nat → Option Nat) (σ ς κ : mem) (cs : va_W) : (wD ad ty hv σ ς κ ++ cs)[5]? = some (ad 5, .inl (ty 1, 5, .inl (fa (σ 3)))) := rfl
theorem aD_6 (ad : Nat → Nat) (ty : Nat → ClassId) (hv : Nat → Option Nat) (σ ς κ : mem) (cs : va_W) : (wD ad ty hv σ ς κ ++ cs)[6]? = some (ad 6, .inl (ty 0, 3, .inl (fa (σ 4)))) := rfl
theorem aD_7 (ad : Nat → Nat) (ty : Nat → ClassId) (hv : Nat → Option Nat) (σ ς κ : mem) (cs : va_W) : (wD ad ty hv σ ς κ ++ cs)[7]? = some (ad 7, .inl (ty 0, 2, .inl (fa (σ 5)))) := rfl
theorem aD_8 (ad : Nat → Nat) (ty : Nat → ClassId) (hv : Nat → Option Nat) (σ ς κ : mem) (cs : va_W) : (wD ad ty hv σ ς κ ++ cs)[8]? = some (ad 8, .inr (2, [.ref (ad 9), .ref (ad 10)])) := rfl
theorem aD_9 (ad : Nat → Nat) (ty : Nat → ClassId) (hv : Nat → Option Nat) (σ ς κ : mem) (cs : va_W) : (wD ad ty hv σ ς κ ++ cs)[9]? = some (ad 9, .inl (ty 0, 3, .inl (fa (σ 6)))) := rfl
theorem aD_10 (ad : Nat → Nat) (ty : Nat → ClassId) (hv : Nat → Option Nat) (σ ς κ : mem) (cs : va_W) : (wD ad ty hv σ ς κ ++ cs)[10]? = some (ad 10, .inl (ty 0, 2, .inl (fa (σ 7)))) := rfl
theorem aD_11 (ad : Nat → Nat) (ty : Nat → ClassId) (hv : Nat → Option Nat) (σ ς κ : mem) (cs : va_W) : (wD ad ty hv σ ς κ ++ cs)[11]? = some (ad 11, .inr (1, [.ref (ad 12), .ref (ad 13), .ref (ad 14), .ref (ad 15), .int (ii (σ 28 0)), .ref (ad 16), .int (ii (σ 29 0)), .ref (ad 17), .int (ii (σ 30 0)), .int (ii (σ 31 0)), .int (ii (σ 32 0)), .int (ii (σ 33 0)), .ref (ad 18)])) := rfl
theorem aD_12 (ad : Nat → Nat) (ty : Nat → ClassId) (hv : Nat → Option Nat) (σ ς κ : mem) (cs : va_W) : (wD ad ty hv σ ς κ ++ cs)[12]? = some (ad 12, .inl (ty 0, 5, .inl (fa (σ 20)))) := rfl
theorem aD_13 (ad : Nat → Nat) (ty : Nat → ClassId) (hv : Nat → Option Nat) (σ ς κ : mem) (cs : va_W) : (wD ad ty hv σ ς κ ++ cs)[13]? = some (ad 13, .inl (ty 0, 5, .inl (fa (σ 21)))) := rfl
theorem aD_14 (ad : Nat → Nat) (ty : Nat → ClassId) (hv : Nat → Option Nat) (σ ς κ : mem) (cs : va_W) : (wD ad ty hv σ ς κ ++ cs)[14]? = some (ad 14, .inl (ty 0, 5, .inl (fa (σ 22)))) := rfl
theorem aD_15 (ad : Nat → Nat) (ty : Nat → ClassId) (hv : Nat → Option Nat) (σ ς κ : mem) (cs : va_W) : (wD ad ty hv σ ς κ ++ cs)[15]? = some (ad 15, .inl (ty 1, 5, .inl (fa (σ 23)))) := rfl
theorem aD_16 (ad : Nat → Nat) (ty : Nat → ClassId) (hv : Nat → Option Nat) (σ ς κ : mem) (cs : va_W) : (wD ad ty hv σ ς κ ++ cs)[16]? = some (ad 16, .inl (ty 0, 3, .inl (fa (σ 24)))) := rfl
theorem aD_17 (ad : Nat → Nat) (ty : Nat → ClassId) (hv : Nat → Option Nat) (σ ς κ : mem) (cs : va_W) : (wD ad ty hv σ ς κ ++ cs)[17]? = some (ad 17, .inl (ty 0, 2, .inl (fa (σ 25)))) := rfl
theorem aD_18 (ad : Nat → Nat) (ty : Nat → ClassId) (hv : Nat → Option Nat) (σ ς κ : mem) (cs : va_W) : (wD ad ty hv σ ς κ ++ cs)[18]? = some (ad 18, .inr (2, [.ref (ad 19), .ref (ad 20)])) := rfl
theorem aD_19 (ad : Nat → Nat) (ty : Nat → ClassId) (hv : Nat → Option Nat) (σ ς κ : mem) (cs : va_W) : (wD ad ty hv σ ς κ ++ cs)[19]? = some (ad 19, .inl (ty 0, 3, .inl (fa (σ 26)))) := rfl
theorem aD_20 (ad : Nat → Nat) (ty : Nat → ClassId) (hv : Nat → Option Nat) (σ ς κ : mem) (cs : va_W) : (wD ad ty hv σ ς κ ++ cs)[20]? = some (ad 20, .inl (ty 0, 2, .inl (fa (σ 27)))) := rfl
theorem aD_21 (ad : Nat → Nat) (ty : Nat → ClassId) (hv : Nat → Option Nat) (σ ς κ : mem) (cs : va_W) : (wD ad ty hv σ ς κ ++ cs)[21]? = some (ad 21, .inr (1, [.ref (ad 22), .ref (ad 23), .ref (ad 24), .ref (ad 25), .int (ii (σ 48 0)), .ref (ad 26), .int (ii (σ 49 0)), .ref (ad 27), .int (ii (σ 50 0)), .int (ii (σ 51 0)), .int (ii (σ 52 0)), .int (ii (σ 53 0)), .ref (ad 28)])) := rfl
theorem aD_22 (ad : Nat → Nat) (ty : Nat → ClassId) (hv : Nat → Option Nat) (σ ς κ : mem) (cs : va_W) : (wD ad ty hv σ ς κ ++ cs)[22]? = some (ad 22, .inl (ty 0, 5, .inl (fa (σ 40)))) := rfl
theorem aD_23 (ad : Nat → Nat) (ty : Nat → ClassId) (hv : Nat → Option Nat) (σ ς κ : mem) (cs : va_W) : (wD ad ty hv σ ς κ ++ cs)[23]? = some (ad 23, .inl (ty 0, 5, .inl (fa (σ 41)))) := rfl
theorem aD_24 (ad : Nat → Nat) (ty : Nat → ClassId) (hv : Nat → Option Nat) (σ ς κ : mem) (cs : va_W) : (wD ad ty hv σ ς κ ++ cs)[24]? = some (ad 24, .inl (ty 0, 5, .inl (fa (σ 42)))) := rfl
theorem aD_25 (ad : Nat → Nat) (ty : Nat → ClassId) (hv : Nat → Option Nat) (σ ς κ : mem) (cs : va_W) : (wD ad ty hv σ ς κ ++ cs)[25]? = some (ad 25, .inl (ty 1, 5, .inl (fa (σ 43)))) := rfl
theorem aD_26 (ad : Nat → Nat) (ty : Nat → ClassId) (hv : Nat → Option Nat) (σ ς κ : mem) (cs : va_W) : (wD ad ty hv σ ς κ ++ cs)[26]? = some (ad 26, .inl (ty 0, 3, .inl (fa (σ 44)))) := rfl
theorem aD_27 (ad : Nat → Nat) (ty : Nat → ClassId) (hv : Nat → Option Nat) (σ ς κ : mem) (cs : va_W) : (wD ad ty hv σ ς κ ++ cs)[27]? = some (ad 27, .inl (ty 0, 2, .inl (fa (σ 45)))) := rfl
theorem aD_28 (ad : Nat → Nat) (ty : Nat → ClassId) (hv : Nat → Option Nat) (σ ς κ : mem) (cs : va_W) : (wD ad ty hv σ ς κ ++ cs)[28]? = some (ad 28, .inr (2, [.ref (ad 29), .ref (ad 30)])) := rfl
theorem aD_29 (ad : Nat → Nat) (ty : Nat → ClassId) (hv : Nat → Option Nat) (σ ς κ : mem) (cs : va_W) : (wD ad ty hv σ ς κ ++ cs)[29]? = some (ad 29, .inl (ty 0, 3, .inl (fa (σ 46)))) := rfl
theorem aD_30 (ad : Nat → Nat) (ty : Nat → ClassId) (hv : Nat → Option Nat) (σ ς κ : mem) (cs : va_W) : (wD ad ty hv σ ς κ ++ cs)[30]? = some (ad 30, .inl (ty 0, 2, .inl (fa (σ 47)))) := rfl
theorem aD_31 (ad : Nat → Nat) (ty : Nat → ClassId) (hv : Nat → Option Nat) (σ ς κ : mem) (cs : va_W) : (wD ad ty hv σ ς κ ++ cs)[31]? = some (ad 31, .inl (ty 5, 7, .inr (.inr (.inr (.inr (fun j => some (ad (32 + j)))))))) := rfl
theorem aD_32 (ad : Nat → Nat) (ty : Nat → ClassId) (hv : Nat → Option Nat) (σ ς κ : mem) (cs : va_W) : (wD ad ty hv σ ς κ ++ cs)[32]? = some (ad 32, .inr (4, [.int (ii (κ 20 0)), .int (ii (κ 21 0)), .int (ii (κ 22 0)), .int (ii (κ 23 0))])) := rfl
theorem aD_33 (ad : Nat → Nat) (ty : Nat → ClassId) (hv : Nat → Option Nat) (σ ς κ : mem) (cs : va_W) : (wD ad ty hv σ ς κ ++ cs)[33]? = some (ad 33, .inr (5, [.int (ii (κ 24 0)), .int (ii (κ 25 0)), .int (ii (κ 26 0)), .int (ii (κ 27 0))])) := rfl
theorem aD_34 (ad : Nat → Nat) (ty : Nat → ClassId) (hv : Nat → Option Nat) (σ ς κ : mem) (cs : va_W) : (wD ad ty hv σ ς κ ++ cs)[34]? = some (ad 34, .inr (6, [.int (ii (κ 28 0)), .int (ii (κ 29 0)), .int (ii (κ 30 0)), .int (ii (κ 31 0))])) := rfl
theorem aD_35 (ad : Nat → Nat) (ty : Nat → ClassId) (hv : Nat → Option Nat) (σ ς κ : mem) (cs : va_W) : (wD ad ty hv σ ς κ ++ cs)[35]? = some (ad 35, .inr (7, [.int (ii (κ 32 0)), .int (ii (κ 33 0)), .int (ii (κ 34 0)), .int (ii (κ 35 0))])) := rfl
theorem aD_36 (ad : Nat → Nat) (ty : Nat → ClassId) (hv : Nat → Option Nat) (σ ς κ : mem) (cs : va_W) : (wD ad ty hv σ ς κ ++ cs)[36]? = some (ad 36, .inr (8, [.int (ii (κ 36 0)), .int (ii (κ 37 0)), .int (ii (κ 38 0)), .int (ii (κ 39 0))])) := rfl
theorem aD_37 (ad : Nat → Nat) (ty : Nat → ClassId) (hv : Nat → Option Nat) (σ ς κ : mem) (cs : va_W) : (wD ad ty hv σ ς κ ++ cs)[37]? = some (ad 37, .inr (9, [.int (ii (κ 40 0)), .int (ii (κ 41 0)), .int (ii (κ 42 0)), .int (ii (κ 43 0))])) := rfl
theorem aD_38 (ad : Nat → Nat) (ty : Nat → ClassId) (hv : Nat → Option Nat) (σ ς κ : mem) (cs : va_W) : (wD ad ty hv σ ς κ ++ cs)[38]? = some (ad 38, .inr (10, [.int (ii (κ 44 0)), .int (ii (κ 45 0)), .int (ii (κ 46 0)), .int (ii (κ 47 0))])) := rfl
theorem aD_39 (ad : Nat → Nat) (ty : Nat → ClassId) (hv : Nat → Option Nat) (σ ς κ : mem) (cs : va_W) : (wD ad ty hv σ ς κ ++ cs)[39]? = some (ad 39, .inl (ty 0, 400, .inl (fa (ς 0)))) := rfl
theorem aD_40 (ad : Nat → Nat) (ty : Nat → ClassId) (hv : Nat → Option Nat) (σ ς κ : mem) (cs : va_W) : (wD ad ty hv σ ς κ ++ cs)[40]? = some (ad 40, .inl (ty 0, 400, .inl (fa (ς 1)))) := rfl
theorem aD_41 (ad : Nat → Nat) (ty : Nat → ClassId) (hv : Nat → Option Nat) (σ ς κ : mem) (cs : va_W) : (wD ad ty hv σ ς κ ++ cs)[41]? = some (ad 41, .inr (2, [.ref (ad 42), .ref (ad 43)])) := rfl
theorem aD_42 (ad : Nat → Nat) (ty : Nat → ClassId) (hv : Nat → Option Nat) (σ ς κ : mem) (cs : va_W) : (wD ad ty hv σ ς κ ++ cs)[42]? = some (ad 42, .inl (ty 0, 3, .inl (fa (ς 3)))) := rfl
theorem aD_43 (ad : Nat → Nat) (ty : Nat → ClassId) (hv : Nat → Option Nat) (σ ς κ : mem) (cs : va_W) : (wD ad ty hv σ ς κ ++ cs)[43]? = some (ad 43, .inl (ty 0, 2, .inl (fa (ς 4)))) := rfl
theorem aD_44 (ad : Nat → Nat) (ty : Nat → ClassId) (hv : Nat → Option Nat) (σ ς κ : mem) (cs : va_W) : (wD ad ty hv σ ς κ ++ cs)[44]? = some (ad 44, .inl (ty 0, 4500, .inl (fa (ς 6)))) := rfl
theorem aD_45 (ad : Nat → Nat) (ty : Nat → ClassId) (hv : Nat → Option Nat) (σ ς κ : mem) (cs : va_W) : (wD ad ty hv σ ς κ ++ cs)[45]? = some (ad 45, .inl (ty 0, 4500, .inl (fa (ς 7)))) := rfl
theorem aD_46 (ad : Nat → Nat) (ty : Nat → ClassId) (hv : Nat → Option Nat) (σ ς κ : mem) (cs : va_W) : (wD ad ty hv σ ς κ ++ cs)[46]? = some (ad 46, .inl (ty 1, 4500, .inl (fa (ς 9)))) := rfl
theorem aD_47 (ad : Nat → Nat) (ty : Nat → ClassId) (hv : Nat → Option Nat) (σ ς κ : mem) (cs : va_W) : (wD ad ty hv σ ς κ ++ cs)[47]? = some (ad 47, .inl (ty 0, 4500, .inl (fa (ς 10)))) := rfl
theorem aD_48 (ad : Nat → Nat) (ty : Nat → ClassId) (hv : Nat → Option Nat) (σ ς κ : mem) (cs : va_W) : (wD ad ty hv σ ς κ ++ cs)[48]? = some (ad 48, .inr (2, [.ref (ad 49), .ref (ad 50)])) := rfl
theorem aD_49 (ad : Nat → Nat) (ty : Nat → ClassId) (hv : Nat → Option Nat) (σ ς κ : mem) (cs : va_W) : (wD ad ty hv σ ς κ ++ cs)[49]? = some (ad 49, .inl (ty 0, 3, .inl (fa (ς 11)))) := rfl
theorem aD_50 (ad : Nat → Nat) (ty : Nat → ClassId) (hv : Nat → Option Nat) (σ ς κ : mem) (cs : va_W) : (wD ad ty hv σ ς κ ++ cs)[50]? = some (ad 50, .inl (ty 0, 2, .inl (fa (ς 12)))) := rfl
theorem aD_51 (ad : Nat → Nat) (ty : Nat → ClassId) (hv : Nat → Option Nat) (σ ς κ : mem) (cs : va_W) : (wD ad ty hv σ ς κ ++ cs)[51]? = some (ad 51, .inr (2, [.ref (ad 52), .ref (ad 53)])) := rfl
theorem aD_52 (ad : Nat → Nat) (ty : Nat → ClassId) (hv : Nat → Option Nat) (σ ς κ : mem) (cs : va_W) : (wD ad ty hv σ ς κ ++ cs)[52]? = some (ad 52, .inl (ty 0, 3, .inl (fa (κ 13)))) := rfl
theorem aD_53 (ad : Nat → Nat) (ty : Nat → ClassId) (hv : Nat → Option Nat) (σ ς κ : mem) (cs : va_W) : (wD ad ty hv σ ς κ ++ cs)[53]? = some (ad 53, .inl (ty 0, 2, .inl (fa (κ 14)))) := rfl
theorem aD_54 (ad : Nat → Nat) (ty : Nat → ClassId) (hv : Nat → Option Nat) (σ ς κ : mem) (cs : va_W) : (wD ad ty hv σ ς κ ++ cs)[54]? = some (ad 54, .inl (ty 1, 4500, .inl (fa (ς 16)))) := rfl
theorem aD_55 (ad : Nat → Nat) (ty : Nat → ClassId) (hv : Nat → Option Nat) (σ ς κ : mem) (cs : va_W) : (wD ad ty hv σ ς κ ++ cs)[55]? = some (ad 55, .inl (ty 0, 4500, .inl (fa (ς 17)))) := rfl
theorem aD_56 (ad : Nat → Nat) (ty : Nat → ClassId) (hv : Nat → Option Nat) (σ ς κ : mem) (cs : va_W) : (wD ad ty hv σ ς κ ++ cs)[56]? = some (ad 56, .inl (ty 6, 8, .inr (.inr (.inr (.inr (fun j => some (ad (57 + j)))))))) := rfl
theorem aD_57 (ad : Nat → Nat) (ty : Nat → ClassId) (hv : Nat → Option Nat) (σ ς κ : mem) (cs : va_W) : (wD ad ty hv σ ς κ ++ cs)[57]? = some (ad 57, .inr (3, [va_rf (hv 0)])) := rfl
theorem aD_58 (ad : Nat → Nat) (ty : Nat → ClassId) (hv : Nat → Option Nat) (σ ς κ : mem) (cs : va_W) : (wD ad ty hv σ ς κ ++ cs)[58]? = some (ad 58, .inr (3, [va_rf (hv 1)])) := rfl
theorem aD_59 (ad : Nat → Nat) (ty : Nat → ClassId) (hv : Nat → Option Nat) (σ ς κ : mem) (cs : va_W) : (wD ad ty hv σ ς κ ++ cs)[59]? = some (ad 59, .inr (3, [va_rf (hv 2)])) := rfl
theorem aD_60 (ad : Nat → Nat) (ty : Nat → ClassId) (hv : Nat → Option Nat) (σ ς κ : mem) (cs : va_W) : (wD ad ty hv σ ς κ ++ cs)[60]? = some (ad 60, .inr (3, [va_rf (hv 3)])) := rfl
theorem aD_61 (ad : Nat → Nat) (ty : Nat → ClassId) (hv : Nat → Option Nat) (σ ς κ : mem) (cs : va_W) : (wD ad ty hv σ ς κ ++ cs)[61]? = some (ad 61, .inr (3, [va_rf (hv 4)])) := rfl
theorem aD_62 (ad : Nat → Nat) (ty : Nat → ClassId) (hv : Nat → Option Nat) (σ ς κ : mem) (cs : va_W) : (wD ad ty hv σ ς κ ++ cs)[62]? = some (ad 62, .inr (3, [va_rf (hv 5)])) := rfl
theorem aD_63 (ad : Nat → Nat) (ty : Nat → ClassId) (hv : Nat → Option Nat) (σ ς κ : mem) (cs : va_W) : (wD ad ty hv σ ς κ ++ cs)[63]? = some (ad 63, .inr (3, [va_rf (hv 6)])) := rfl
theorem aD_64 (ad : Nat → Nat) (ty : Nat → ClassId) (hv : Nat → Option Nat) (σ ς κ : mem) (cs : va_W) : (wD ad ty hv σ ς κ ++ cs)[64]? = some (ad 64, .inr (3, [va_rf (hv 7)])) := rfl
theorem aM_0 (am : Nat → Nat) (ty : Nat → ClassId) (τ ρ : mem) (cs : va_W) : (wM am ty τ ρ ++ cs)[0]? = some (am 0, .inr (11, [.int (ii (τ 0 0)), .ref (am 1), .ref (am 2), .ref (am 3), .ref (am 4), .int (ii (τ 5 0)), .ref (am 5), .int (ii (τ 7 0)), .ref (am 6), .ref (am 7), .ref (am 8), .int (ii (τ 11 0)), .int (ii (τ 12 0)), .int (ii (τ 13 0)), .int (ii (ρ 14 0)), .int (ii (ρ 15 0)), .int (ii (ρ 16 0)), .int (ii (ρ 17 0)), .int (ii (ρ 18 0)), .int (ii (ρ 19 0)), .ref (am 9), .ref (am 10), .ref (am 11), .ref (am 12), .ref (am 13), .ref (am 14), .ref (am 15), .ref (am 16), .ref (am 17), .ref (am 18), .int (ii (ρ 30 0)), .ref (am 19), .ref (am 20), .int (ii (ρ 33 0)), .ref (am 21), .ref (am 22), .int (ii (ρ 36 0)), .int (ii (ρ 37 0)), .ref (am 23), .ref (am 24), .ref (am 25), .ref (am 26), .int (ii (τ 42 0)), .ref (am 27), .int (ii (ρ 44 0)), .int (ii (ρ 45 0)), .ref (am 28), .ref (am 29), .ref (am 30), .ref (am 31), .ref (am 32), .ref (am 33)])) := rfl
theorem aM_1 (am : Nat → Nat) (ty : Nat → ClassId) (τ ρ : mem) (cs : va_W) : (wM am ty τ ρ ++ cs)[1]? = some (am 1, .inl (ty 0, 5, .inl (fa (τ 1)))) := rfl
theorem aM_2 (am : Nat → Nat) (ty : Nat → ClassId) (τ ρ : mem) (cs : va_W) : (wM am ty τ ρ ++ cs)[2]? = some (am 2, .inl (ty 0, 5, .inl (fa (τ 2)))) := rfl
theorem aM_3 (am : Nat → Nat) (ty : Nat → ClassId) (τ ρ : mem) (cs : va_W) : (wM am ty τ ρ ++ cs)[3]? = some (am 3, .inl (ty 0, 5, .inl (fa (τ 3)))) := rfl
theorem aM_4 (am : Nat → Nat) (ty : Nat → ClassId) (τ ρ : mem) (cs : va_W) : (wM am ty τ ρ ++ cs)[4]? = some (am 4, .inl (ty 1, 5, .inl (fa (τ 4)))) := rfl
theorem aM_5 (am : Nat → Nat) (ty : Nat → ClassId) (τ ρ : mem) (cs : va_W) : (wM am ty τ ρ ++ cs)[5]? = some (am 5, .inl (ty 0, 3, .inl (fa (τ 6)))) := rfl
theorem aM_6 (am : Nat → Nat) (ty : Nat → ClassId) (τ ρ : mem) (cs : va_W) : (wM am ty τ ρ ++ cs)[6]? = some (am 6, .inl (ty 0, 2, .inl (fa (τ 8)))) := rfl
theorem aM_7 (am : Nat → Nat) (ty : Nat → ClassId) (τ ρ : mem) (cs : va_W) : (wM am ty τ ρ ++ cs)[7]? = some (am 7, .inl (ty 0, 3, .inl (fa (τ 9)))) := rfl
theorem aM_8 (am : Nat → Nat) (ty : Nat → ClassId) (τ ρ : mem) (cs : va_W) : (wM am ty τ ρ ++ cs)[8]? = some (am 8, .inl (ty 0, 2, .inl (fa (τ 10)))) := rfl
theorem aM_9 (am : Nat → Nat) (ty : Nat → ClassId) (τ ρ : mem) (cs : va_W) : (wM am ty τ ρ ++ cs)[9]? = some (am 9, .inl (ty 0, 50, .inl (fa (ρ 20)))) := rfl
theorem aM_10 (am : Nat → Nat) (ty : Nat → ClassId) (τ ρ : mem) (cs : va_W) : (wM am ty τ ρ ++ cs)[10]? = some (am 10, .inl (ty 0, 50, .inl (fa (ρ 21)))) := rfl
theorem aM_11 (am : Nat → Nat) (ty : Nat → ClassId) (τ ρ : mem) (cs : va_W) : (wM am ty τ ρ ++ cs)[11]? = some (am 11, .inl (ty 0, 50, .inl (fa (ρ 22)))) := rfl
theorem aM_12 (am : Nat → Nat) (ty : Nat → ClassId) (τ ρ : mem) (cs : va_W) : (wM am ty τ ρ ++ cs)[12]? = some (am 12, .inl (ty 0, 50, .inl (fa (ρ 23)))) := rfl
theorem aM_13 (am : Nat → Nat) (ty : Nat → ClassId) (τ ρ : mem) (cs : va_W) : (wM am ty τ ρ ++ cs)[13]? = some (am 13, .inl (ty 1, 50, .inl (fa (ρ 24)))) := rfl
theorem aM_14 (am : Nat → Nat) (ty : Nat → ClassId) (τ ρ : mem) (cs : va_W) : (wM am ty τ ρ ++ cs)[14]? = some (am 14, .inl (ty 0, 5, .inl (fa (ρ 25)))) := rfl
theorem aM_15 (am : Nat → Nat) (ty : Nat → ClassId) (τ ρ : mem) (cs : va_W) : (wM am ty τ ρ ++ cs)[15]? = some (am 15, .inl (ty 1, 5, .inl (fa (ρ 26)))) := rfl
theorem aM_16 (am : Nat → Nat) (ty : Nat → ClassId) (τ ρ : mem) (cs : va_W) : (wM am ty τ ρ ++ cs)[16]? = some (am 16, .inl (ty 0, 3, .inl (fa (ρ 27)))) := rfl
theorem aM_17 (am : Nat → Nat) (ty : Nat → ClassId) (τ ρ : mem) (cs : va_W) : (wM am ty τ ρ ++ cs)[17]? = some (am 17, .inl (ty 0, 2, .inl (fa (ρ 28)))) := rfl
theorem aM_18 (am : Nat → Nat) (ty : Nat → ClassId) (τ ρ : mem) (cs : va_W) : (wM am ty τ ρ ++ cs)[18]? = some (am 18, .inl (ty 0, 2400, .inl (fa (ρ 29)))) := rfl
theorem aM_19 (am : Nat → Nat) (ty : Nat → ClassId) (τ ρ : mem) (cs : va_W) : (wM am ty τ ρ ++ cs)[19]? = some (am 19, .inl (ty 0, 4500, .inl (fa (ρ 31)))) := rfl
theorem aM_20 (am : Nat → Nat) (ty : Nat → ClassId) (τ ρ : mem) (cs : va_W) : (wM am ty τ ρ ++ cs)[20]? = some (am 20, .inl (ty 0, 4501, .inl (fa (ρ 32)))) := rfl
theorem aM_21 (am : Nat → Nat) (ty : Nat → ClassId) (τ ρ : mem) (cs : va_W) : (wM am ty τ ρ ++ cs)[21]? = some (am 21, .inl (ty 0, 4500, .inl (fa (ρ 34)))) := rfl
theorem aM_22 (am : Nat → Nat) (ty : Nat → ClassId) (τ ρ : mem) (cs : va_W) : (wM am ty τ ρ ++ cs)[22]? = some (am 22, .inl (ty 1, 4500, .inl (fa (ρ 35)))) := rfl
theorem aM_23 (am : Nat → Nat) (ty : Nat → ClassId) (τ ρ : mem) (cs : va_W) : (wM am ty τ ρ ++ cs)[23]? = some (am 23, .inl (ty 1, 4500, .inl (fa (ρ 38)))) := rfl
theorem aM_24 (am : Nat → Nat) (ty : Nat → ClassId) (τ ρ : mem) (cs : va_W) : (wM am ty τ ρ ++ cs)[24]? = some (am 24, .inl (ty 1, 4500, .inl (fa (ρ 39)))) := rfl
theorem aM_25 (am : Nat → Nat) (ty : Nat → ClassId) (τ ρ : mem) (cs : va_W) : (wM am ty τ ρ ++ cs)[25]? = some (am 25, .inl (ty 1, 4500, .inl (fa (ρ 40)))) := rfl
theorem aM_26 (am : Nat → Nat) (ty : Nat → ClassId) (τ ρ : mem) (cs : va_W) : (wM am ty τ ρ ++ cs)[26]? = some (am 26, .inl (ty 0, 4500, .inl (fa (ρ 41)))) := rfl
theorem aM_27 (am : Nat → Nat) (ty : Nat → ClassId) (τ ρ : mem) (cs : va_W) : (wM am ty τ ρ ++ cs)[27]? = some (am 27, .inl (ty 0, 50, .inl (fa (τ 43)))) := rfl
theorem aM_28 (am : Nat → Nat) (ty : Nat → ClassId) (τ ρ : mem) (cs : va_W) : (wM am ty τ ρ ++ cs)[28]? = some (am 28, .inl (ty 0, 8, .inl (fa (τ 46)))) := rfl
theorem aM_29 (am : Nat → Nat) (ty : Nat → ClassId) (τ ρ : mem) (cs : va_W) : (wM am ty τ ρ ++ cs)[29]? = some (am 29, .inl (ty 0, 8, .inl (fa (τ 47)))) := rfl
theorem aM_30 (am : Nat → Nat) (ty : Nat → ClassId) (τ ρ : mem) (cs : va_W) : (wM am ty τ ρ ++ cs)[30]? = some (am 30, .inl (ty 0, 8, .inl (fa (τ 48)))) := rfl
theorem aM_31 (am : Nat → Nat) (ty : Nat → ClassId) (τ ρ : mem) (cs : va_W) : (wM am ty τ ρ ++ cs)[31]? = some (am 31, .inl (ty 0, 8, .inl (fa (τ 49)))) := rfl
theorem aM_32 (am : Nat → Nat) (ty : Nat → ClassId) (τ ρ : mem) (cs : va_W) : (wM am ty τ ρ ++ cs)[32]? = some (am 32, .inl (ty 4, 800, .inr (.inl (fl (τ 50))))) := rfl
theorem aM_33 (am : Nat → Nat) (ty : Nat → ClassId) (τ ρ : mem) (cs : va_W) : (wM am ty τ ρ ++ cs)[33]? = some (am 33, .inl (ty 4, 100, .inr (.inl (fl (ρ 51))))) := rfl
