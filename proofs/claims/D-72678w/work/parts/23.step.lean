/-! a place goes by -/
set_option maxRecDepth 100000
/-- what a house may keep -/
def hsB (S : HS) : Prop := 1 ≤ S.span ∧ S.span ≤ 4 ∧ S.rule ≤ 2 ∧ S.prior < 1048576
/-- the reading, as it stands in the heap -/
def RdIs (m : Nat → Nat → Int32) (D : RD) : Prop := (∀ w : Nat, w < 20 → m 31 w = nI (D.1 w).1 ∧ (0 < (D.1 w).1 → m 32 w = nI (D.1 w).2)) ∧ ∀ p : Nat, p < D.2.length → m 33 p = nI (D.2.getD p PL0).1 ∧ m 34 p = nI (D.2.getD p PL0).2.1 ∧ m 35 p = nI (D.2.getD p PL0).2.2.1 ∧ m 36 p = nI (D.2.getD p PL0).2.2.2
/-- nothing but the reading has changed -/
def rdFr (m m' : Nat → Nat → Int32) : Prop := ∀ i : Nat, (i < 31 ∨ 37 ≤ i) → m' i = m i
theorem nx_shl : ∀ a, a < 5 → ∀ k, k < 9 → nI a <<< (nI k &&& 31) = nI (a * 2 ^ k) := by decide +kernel
theorem andn_lt {a b n : Nat} (h : a < 2 ^ n) : andn a b < 2 ^ n := by
  refine Nat.lt_pow_two_of_testBit _ (fun i hi => ?_)
  rw [andn_tb, Nat.testBit_lt_two_pow (Nat.lt_of_lt_of_le h (Nat.pow_le_pow_right (by decide) hi)), Bool.false_and]
theorem nx_not (a : Nat) (b : Nat) : nI a &&& (nI b ^^^ -1) = nI (andn a b) := nx_andn a b
def tX0_step : amT := fun as h K => match as with
  | [.ref a, .int p0, .int w0] => ∃ (S : HS) (D : RD) (words : Nat), a = (24 : Nat) ∧ rsAt h ∧ HsIs h.2.1 25 S ∧ hsB S ∧ rdOk D ∧ RdIs h.2.1 D ∧ D.2.length < 7 ∧ p0 = nI D.2.length ∧ w0 = nI words ∧ words < 1048576 ∧ ∀ m', RdIs m' (rdStep S.span S.rule S.prior D words) → rdFr h.2.1 m' → K none (amSI h m')
  | _ => False
/-! ReadingStages.step(II)V -/
def kX0_step : Nat → Bool := fun pc => pc == 50 || pc == 103 || pc == 146 || pc == 170 || pc == 176
def rX0_step : List (Nat × amS) := [(2, 1, 0, 0, amTget 0 0), (5, 1, 0, 0, amTget 1 3), (13, 1, 0, 0, (amRecv 0 tX0_strong)), (19, 1, 0, 0, amTget 0 4), (31, 1, 0, 0, amTget 0 5), (41, 1, 0, 0, amTget 0 6), (60, 2, 0, 0, tX0_has), (67, 1, 0, 0, amTget 0 2), (75, 1, 0, 0, amTget 0 2), (95, 1, 0, 0, amTget 0 3), (104, 1, 0, 0, amTget 0 2), (115, 1, 0, 0, amTget 0 3), (123, 1, 0, 0, amTget 0 1), (127, 1, 0, 0, amTget 0 0), (130, 1, 0, 0, amTget 1 6), (135, 1, 0, 0, amTget 0 2), (141, 2, 0, 0, tRule), (150, 1, 0, 0, amTget 0 2), (158, 1, 0, 0, amTget 0 6), (177, 1, 0, 0, amTget 0 7), (182, 1, 0, 0, (amRecv 0 tX0_strong))]
def eX0_step (ret : Option Value → amH → Nat → Nat → Prop) (F : amX) : Nat → amX := amWp cX0_step kX0_step (amLk rX0_step) none 0 0 ret F
def sX0_step (ret : Option Value → amH → Nat → Nat → Prop) (F : amX) : Nat → amX := amWs cX0_step kX0_step (amLk rX0_step) none 0 0 ret F
theorem wX0_step_0 {ret F n h} {v0 v1 v3 v4 v5 st x} : eX0_step ret F (n + 1) 0 [v0, v1, .int x, v3, v4, v5] (st) h 0 0 = (eX0_step ret F n 1 [v0, v1, .int x, v3, v4, v5] (.int x :: st) h 0 0) := (amWp_dec rfl dX0_step_0 rfl).trans rfl
theorem uX0_step_0 {ret F n h} {v0 v1 v3 v4 v5 st x} : sX0_step ret F n 0 [v0, v1, .int x, v3, v4, v5] (st) h 0 0 = (eX0_step ret F n 1 [v0, v1, .int x, v3, v4, v5] (.int x :: st) h 0 0) := (amWs_dec dX0_step_0 rfl).trans rfl
theorem wX0_step_1 {ret F n h} {v0 v1 v2 v3 v4 v5 st} : eX0_step ret F (n + 1) 1 [v0, v1, v2, v3, v4, v5] (st) h 0 0 = (amIsR v0 ∧ eX0_step ret F n 2 [v0, v1, v2, v3, v4, v5] (v0 :: st) h 0 0) := (amWp_dec rfl dX0_step_1 rfl).trans rfl
theorem wX0_step_2 {ret F n h} {v0 v1 v2 v3 v4 v5 r0 a} : eX0_step ret F (n + 1) 2 [v0, v1, v2, v3, v4, v5] (.ref a :: r0 :: []) h 0 0 = (h.1 a = (0, 0) ∧ eX0_step ret F n 5 [v0, v1, v2, v3, v4, v5] (va_rf (h.2.2.2.1 a 0) :: r0 :: []) h 0 0) := (amWp_dec rfl dX0_step_2 rfl).trans (amS4 (Nat.le_of_ble_eq_true rfl) (Nat.le_of_ble_eq_true rfl) (Nat.le_of_ble_eq_true rfl) (Nat.le_of_ble_eq_true rfl))
theorem wX0_step_5 {ret F n h} {v0 v1 v2 v3 v4 v5 r0 a} : eX0_step ret F (n + 1) 5 [v0, v1, v2, v3, v4, v5] (.ref a :: r0 :: []) h 0 0 = (h.1 a = (0, 1) ∧ eX0_step ret F n 8 [v0, v1, v2, v3, v4, v5] (.int (h.2.1 a 3) :: r0 :: []) h 0 0) := (amWp_dec rfl dX0_step_5 rfl).trans (amS4 (Nat.le_of_ble_eq_true rfl) (Nat.le_of_ble_eq_true rfl) (Nat.le_of_ble_eq_true rfl) (Nat.le_of_ble_eq_true rfl))
theorem wX0_step_8 {ret F n h} {v0 v1 v2 v3 v4 v5 st} : eX0_step ret F (n + 1) 8 [v0, v1, v2, v3, v4, v5] (st) h 0 0 = (eX0_step ret F n 9 [v0, v1, v2, v3, v4, v5] (.int (-1) :: st) h 0 0) := (amWp_dec rfl dX0_step_8 rfl).trans rfl
theorem wX0_step_9 {ret F n h} {v0 v1 v2 v3 v4 v5 st y x} : eX0_step ret F (n + 1) 9 [v0, v1, v2, v3, v4, v5] (.int y :: .int x :: st) h 0 0 = (eX0_step ret F n 10 [v0, v1, v2, v3, v4, v5] (.int (x ^^^ y) :: st) h 0 0) := (amWp_dec rfl dX0_step_9 rfl).trans rfl
theorem wX0_step_10 {ret F n h} {v0 v1 v2 v3 v4 v5 st y x} : eX0_step ret F (n + 1) 10 [v0, v1, v2, v3, v4, v5] (.int y :: .int x :: st) h 0 0 = (eX0_step ret F n 11 [v0, v1, v2, v3, v4, v5] (.int (x &&& y) :: st) h 0 0) := (amWp_dec rfl dX0_step_10 rfl).trans rfl
theorem wX0_step_11 {ret F n h} {v0 v1 v2 v3 v4 v5 st x} : eX0_step ret F (n + 1) 11 [v0, v1, v2, v3, v4, v5] (.int x :: st) h 0 0 = (eX0_step ret F n 12 [v0, v1, amClr v2, .int x, v4, v5] (st) h 0 0) := (amWp_dec rfl dX0_step_11 rfl).trans (amTrue (Nat.le_of_ble_eq_true rfl))
theorem wX0_step_12 {ret F n h} {v0 v1 v2 v3 v4 v5 st} : eX0_step ret F (n + 1) 12 [v0, v1, v2, v3, v4, v5] (st) h 0 0 = (amIsR v0 ∧ eX0_step ret F n 13 [v0, v1, v2, v3, v4, v5] (v0 :: st) h 0 0) := (amWp_dec rfl dX0_step_12 rfl).trans rfl
theorem wX0_step_13 {ret F n h} {v0 v1 v2 v3 v4 v5 x0} : eX0_step ret F (n + 1) 13 [v0, v1, v2, v3, v4, v5] (.ref x0 :: []) h 0 0 = (h.1 x0 = (0, 0) ∧ tX0_strong [.ref x0] h (fun v h => eX0_step ret F n 16 [v0, v1, v2, v3, v4, v5] (v.toList ++ ([])) h 0 0)) := (amWp_dec rfl dX0_step_13 rfl).trans (amS4 (Nat.le_of_ble_eq_true rfl) (Nat.le_of_ble_eq_true rfl) (Nat.le_of_ble_eq_true rfl) (Nat.le_of_ble_eq_true rfl))
theorem wX0_step_16 {ret F n h} {v0 v1 v2 v3 v4 v5 st x} : eX0_step ret F (n + 1) 16 [v0, v1, v2, v3, v4, v5] (.int x :: st) h 0 0 = (eX0_step ret F n 18 [v0, v1, v2, amClr v3, .int x, v5] (st) h 0 0) := (amWp_dec rfl dX0_step_16 rfl).trans (amTrue (Nat.le_of_ble_eq_true rfl))
theorem wX0_step_18 {ret F n h} {v0 v1 v2 v3 v4 v5 st} : eX0_step ret F (n + 1) 18 [v0, v1, v2, v3, v4, v5] (st) h 0 0 = (amIsR v0 ∧ eX0_step ret F n 19 [v0, v1, v2, v3, v4, v5] (v0 :: st) h 0 0) := (amWp_dec rfl dX0_step_18 rfl).trans rfl
theorem wX0_step_19 {ret F n h} {v0 v1 v2 v3 v4 v5 a} : eX0_step ret F (n + 1) 19 [v0, v1, v2, v3, v4, v5] (.ref a :: []) h 0 0 = (h.1 a = (0, 0) ∧ eX0_step ret F n 22 [v0, v1, v2, v3, v4, v5] (va_rf (h.2.2.2.1 a 4) :: []) h 0 0) := (amWp_dec rfl dX0_step_19 rfl).trans (amS4 (Nat.le_of_ble_eq_true rfl) (Nat.le_of_ble_eq_true rfl) (Nat.le_of_ble_eq_true rfl) (Nat.le_of_ble_eq_true rfl))
theorem wX0_step_22 {ret F n h} {v0 v2 v3 v4 v5 st x} : eX0_step ret F (n + 1) 22 [v0, .int x, v2, v3, v4, v5] (st) h 0 0 = (eX0_step ret F n 23 [v0, .int x, v2, v3, v4, v5] (.int x :: st) h 0 0) := (amWp_dec rfl dX0_step_22 rfl).trans rfl
theorem wX0_step_23 {ret F n h} {v0 v1 v2 v4 v5 st x} : eX0_step ret F (n + 1) 23 [v0, v1, v2, .int x, v4, v5] (st) h 0 0 = (eX0_step ret F n 24 [v0, v1, v2, .int x, v4, v5] (.int x :: st) h 0 0) := (amWp_dec rfl dX0_step_23 rfl).trans rfl
theorem wX0_step_24 {ret F n h} {v0 v1 v2 v3 v5 st x} : eX0_step ret F (n + 1) 24 [v0, v1, v2, v3, .int x, v5] (st) h 0 0 = (eX0_step ret F n 26 [v0, v1, v2, v3, .int x, v5] (.int x :: st) h 0 0) := (amWp_dec rfl dX0_step_24 rfl).trans rfl
theorem wX0_step_26 {ret F n h} {v0 v1 v2 v3 v4 v5 st} : eX0_step ret F (n + 1) 26 [v0, v1, v2, v3, v4, v5] (st) h 0 0 = (eX0_step ret F n 27 [v0, v1, v2, v3, v4, v5] (.int (-1) :: st) h 0 0) := (amWp_dec rfl dX0_step_26 rfl).trans rfl
theorem wX0_step_27 {ret F n h} {v0 v1 v2 v3 v4 v5 st y x} : eX0_step ret F (n + 1) 27 [v0, v1, v2, v3, v4, v5] (.int y :: .int x :: st) h 0 0 = (eX0_step ret F n 28 [v0, v1, v2, v3, v4, v5] (.int (x ^^^ y) :: st) h 0 0) := (amWp_dec rfl dX0_step_27 rfl).trans rfl
theorem wX0_step_28 {ret F n h} {v0 v1 v2 v3 v4 v5 st y x} : eX0_step ret F (n + 1) 28 [v0, v1, v2, v3, v4, v5] (.int y :: .int x :: st) h 0 0 = (eX0_step ret F n 29 [v0, v1, v2, v3, v4, v5] (.int (x &&& y) :: st) h 0 0) := (amWp_dec rfl dX0_step_28 rfl).trans rfl
theorem wX0_step_29 {ret F n h} {v0 v1 v2 v3 v4 v5 st y x a} : eX0_step ret F (n + 1) 29 [v0, v1, v2, v3, v4, v5] (.int y :: .int x :: .ref a :: st) h 0 0 = ((h.1 a).1 = 1 ∧ vp_in x (h.1 a).2 ∧ amN0 ≤ a ∧ eX0_step ret F n 30 [v0, v1, v2, v3, v4, v5] (st) (amSI h (amU h.2.1 a x.toNatClampNeg y)) 0 0) := (amWp_dec rfl dX0_step_29 rfl).trans rfl
theorem wX0_step_30 {ret F n h} {v0 v1 v2 v3 v4 v5 st} : eX0_step ret F (n + 1) 30 [v0, v1, v2, v3, v4, v5] (st) h 0 0 = (amIsR v0 ∧ eX0_step ret F n 31 [v0, v1, v2, v3, v4, v5] (v0 :: st) h 0 0) := (amWp_dec rfl dX0_step_30 rfl).trans rfl
theorem wX0_step_31 {ret F n h} {v0 v1 v2 v3 v4 v5 a} : eX0_step ret F (n + 1) 31 [v0, v1, v2, v3, v4, v5] (.ref a :: []) h 0 0 = (h.1 a = (0, 0) ∧ eX0_step ret F n 34 [v0, v1, v2, v3, v4, v5] (va_rf (h.2.2.2.1 a 5) :: []) h 0 0) := (amWp_dec rfl dX0_step_31 rfl).trans (amS4 (Nat.le_of_ble_eq_true rfl) (Nat.le_of_ble_eq_true rfl) (Nat.le_of_ble_eq_true rfl) (Nat.le_of_ble_eq_true rfl))
theorem wX0_step_34 {ret F n h} {v0 v2 v3 v4 v5 st x} : eX0_step ret F (n + 1) 34 [v0, .int x, v2, v3, v4, v5] (st) h 0 0 = (eX0_step ret F n 35 [v0, .int x, v2, v3, v4, v5] (.int x :: st) h 0 0) := (amWp_dec rfl dX0_step_34 rfl).trans rfl
theorem wX0_step_35 {ret F n h} {v0 v1 v2 v4 v5 st x} : eX0_step ret F (n + 1) 35 [v0, v1, v2, .int x, v4, v5] (st) h 0 0 = (eX0_step ret F n 36 [v0, v1, v2, .int x, v4, v5] (.int x :: st) h 0 0) := (amWp_dec rfl dX0_step_35 rfl).trans rfl
theorem wX0_step_36 {ret F n h} {v0 v1 v2 v3 v5 st x} : eX0_step ret F (n + 1) 36 [v0, v1, v2, v3, .int x, v5] (st) h 0 0 = (eX0_step ret F n 38 [v0, v1, v2, v3, .int x, v5] (.int x :: st) h 0 0) := (amWp_dec rfl dX0_step_36 rfl).trans rfl
theorem wX0_step_38 {ret F n h} {v0 v1 v2 v3 v4 v5 st y x} : eX0_step ret F (n + 1) 38 [v0, v1, v2, v3, v4, v5] (.int y :: .int x :: st) h 0 0 = (eX0_step ret F n 39 [v0, v1, v2, v3, v4, v5] (.int (x &&& y) :: st) h 0 0) := (amWp_dec rfl dX0_step_38 rfl).trans rfl
theorem wX0_step_39 {ret F n h} {v0 v1 v2 v3 v4 v5 st y x a} : eX0_step ret F (n + 1) 39 [v0, v1, v2, v3, v4, v5] (.int y :: .int x :: .ref a :: st) h 0 0 = ((h.1 a).1 = 1 ∧ vp_in x (h.1 a).2 ∧ amN0 ≤ a ∧ eX0_step ret F n 40 [v0, v1, v2, v3, v4, v5] (st) (amSI h (amU h.2.1 a x.toNatClampNeg y)) 0 0) := (amWp_dec rfl dX0_step_39 rfl).trans rfl
theorem wX0_step_40 {ret F n h} {v0 v1 v2 v3 v4 v5 st} : eX0_step ret F (n + 1) 40 [v0, v1, v2, v3, v4, v5] (st) h 0 0 = (amIsR v0 ∧ eX0_step ret F n 41 [v0, v1, v2, v3, v4, v5] (v0 :: st) h 0 0) := (amWp_dec rfl dX0_step_40 rfl).trans rfl
theorem wX0_step_41 {ret F n h} {v0 v1 v2 v3 v4 v5 a} : eX0_step ret F (n + 1) 41 [v0, v1, v2, v3, v4, v5] (.ref a :: []) h 0 0 = (h.1 a = (0, 0) ∧ eX0_step ret F n 44 [v0, v1, v2, v3, v4, v5] (va_rf (h.2.2.2.1 a 6) :: []) h 0 0) := (amWp_dec rfl dX0_step_41 rfl).trans (amS4 (Nat.le_of_ble_eq_true rfl) (Nat.le_of_ble_eq_true rfl) (Nat.le_of_ble_eq_true rfl) (Nat.le_of_ble_eq_true rfl))
theorem wX0_step_44 {ret F n h} {v0 v2 v3 v4 v5 st x} : eX0_step ret F (n + 1) 44 [v0, .int x, v2, v3, v4, v5] (st) h 0 0 = (eX0_step ret F n 45 [v0, .int x, v2, v3, v4, v5] (.int x :: st) h 0 0) := (amWp_dec rfl dX0_step_44 rfl).trans rfl
theorem wX0_step_45 {ret F n h} {v0 v1 v2 v3 v4 v5 st} : eX0_step ret F (n + 1) 45 [v0, v1, v2, v3, v4, v5] (st) h 0 0 = (eX0_step ret F n 46 [v0, v1, v2, v3, v4, v5] (.int (nI 0) :: st) h 0 0) := (amWp_dec rfl dX0_step_45 rfl).trans rfl
theorem wX0_step_46 {ret F n h} {v0 v1 v2 v3 v4 v5 st y x a} : eX0_step ret F (n + 1) 46 [v0, v1, v2, v3, v4, v5] (.int y :: .int x :: .ref a :: st) h 0 0 = ((h.1 a).1 = 1 ∧ vp_in x (h.1 a).2 ∧ amN0 ≤ a ∧ eX0_step ret F n 47 [v0, v1, v2, v3, v4, v5] (st) (amSI h (amU h.2.1 a x.toNatClampNeg y)) 0 0) := (amWp_dec rfl dX0_step_46 rfl).trans rfl
theorem wX0_step_47 {ret F n h} {v0 v1 v2 v3 v4 v5 st} : eX0_step ret F (n + 1) 47 [v0, v1, v2, v3, v4, v5] (st) h 0 0 = (eX0_step ret F n 48 [v0, v1, v2, v3, v4, v5] (.int (nI 0) :: st) h 0 0) := (amWp_dec rfl dX0_step_47 rfl).trans rfl
theorem wX0_step_48 {ret F n h} {v0 v1 v2 v3 v4 v5 st x} : eX0_step ret F (n + 1) 48 [v0, v1, v2, v3, v4, v5] (.int x :: st) h 0 0 = (eX0_step ret F n 50 [v0, v1, v2, v3, amClr v4, .int x] (st) h 0 0) := (amWp_dec rfl dX0_step_48 rfl).trans (amTrue (Nat.le_of_ble_eq_true rfl))
theorem wX0_step_50 {ret F n ls st h k z} : eX0_step ret F (n + 1) 50 ls st h k z = F 50 ls st h k z := amWp_cut rfl
theorem uX0_step_50 {ret F n h} {v0 v1 v2 v3 v4 st x} : sX0_step ret F n 50 [v0, v1, v2, v3, v4, .int x] (st) h 0 0 = (eX0_step ret F n 52 [v0, v1, v2, v3, v4, .int x] (.int x :: st) h 0 0) := (amWs_dec dX0_step_50 rfl).trans rfl
theorem wX0_step_52 {ret F n h} {v0 v1 v2 v3 v4 v5 st} : eX0_step ret F (n + 1) 52 [v0, v1, v2, v3, v4, v5] (st) h 0 0 = (eX0_step ret F n 54 [v0, v1, v2, v3, v4, v5] (.int (nI 20) :: st) h 0 0) := (amWp_dec rfl dX0_step_52 rfl).trans rfl
theorem wX0_step_54 {ret F n h} {v0 v1 v2 v3 v4 v5 st y x} : eX0_step ret F (n + 1) 54 [v0, v1, v2, v3, v4, v5] (.int y :: .int x :: st) h 0 0 = ((y ≤ x → eX0_step ret F n 176 [v0, v1, v2, v3, v4, v5] (st) h 0 0) ∧ (¬ y ≤ x → eX0_step ret F n 57 [v0, v1, v2, v3, v4, v5] (st) h 0 0)) := (amWp_dec rfl dX0_step_54 rfl).trans rfl
theorem wX0_step_57 {ret F n h} {v0 v1 v2 v4 v5 st x} : eX0_step ret F (n + 1) 57 [v0, v1, v2, .int x, v4, v5] (st) h 0 0 = (eX0_step ret F n 58 [v0, v1, v2, .int x, v4, v5] (.int x :: st) h 0 0) := (amWp_dec rfl dX0_step_57 rfl).trans rfl
theorem wX0_step_58 {ret F n h} {v0 v1 v2 v3 v4 st x} : eX0_step ret F (n + 1) 58 [v0, v1, v2, v3, v4, .int x] (st) h 0 0 = (eX0_step ret F n 60 [v0, v1, v2, v3, v4, .int x] (.int x :: st) h 0 0) := (amWp_dec rfl dX0_step_58 rfl).trans rfl
theorem wX0_step_60 {ret F n h} {v0 v1 v2 v3 v4 v5 x1 x0} : eX0_step ret F (n + 1) 60 [v0, v1, v2, v3, v4, v5] (.int x1 :: .int x0 :: []) h 0 0 = (tX0_has [.int x0, .int x1] h (fun v h => eX0_step ret F n 63 [v0, v1, v2, v3, v4, v5] (v.toList ++ ([])) h 0 0)) := (amWp_dec rfl dX0_step_60 rfl).trans (amS4 (Nat.le_of_ble_eq_true rfl) (Nat.le_of_ble_eq_true rfl) (Nat.le_of_ble_eq_true rfl) (Nat.le_of_ble_eq_true rfl))
theorem wX0_step_63 {ret F n h} {v0 v1 v2 v3 v4 v5 st x} : eX0_step ret F (n + 1) 63 [v0, v1, v2, v3, v4, v5] (.int x :: st) h 0 0 = ((x = 0 → eX0_step ret F n 103 [v0, v1, v2, v3, v4, v5] (st) h 0 0) ∧ (¬ x = 0 → eX0_step ret F n 66 [v0, v1, v2, v3, v4, v5] (st) h 0 0)) := (amWp_dec rfl dX0_step_63 rfl).trans rfl
theorem wX0_step_66 {ret F n h} {v0 v1 v2 v3 v4 v5 st} : eX0_step ret F (n + 1) 66 [v0, v1, v2, v3, v4, v5] (st) h 0 0 = (amIsR v0 ∧ eX0_step ret F n 67 [v0, v1, v2, v3, v4, v5] (v0 :: st) h 0 0) := (amWp_dec rfl dX0_step_66 rfl).trans rfl
theorem wX0_step_67 {ret F n h} {v0 v1 v2 v3 v4 v5 a} : eX0_step ret F (n + 1) 67 [v0, v1, v2, v3, v4, v5] (.ref a :: []) h 0 0 = (h.1 a = (0, 0) ∧ eX0_step ret F n 70 [v0, v1, v2, v3, v4, v5] (va_rf (h.2.2.2.1 a 2) :: []) h 0 0) := (amWp_dec rfl dX0_step_67 rfl).trans (amS4 (Nat.le_of_ble_eq_true rfl) (Nat.le_of_ble_eq_true rfl) (Nat.le_of_ble_eq_true rfl) (Nat.le_of_ble_eq_true rfl))
theorem wX0_step_70 {ret F n h} {v0 v1 v2 v3 v4 st x} : eX0_step ret F (n + 1) 70 [v0, v1, v2, v3, v4, .int x] (st) h 0 0 = (eX0_step ret F n 72 [v0, v1, v2, v3, v4, .int x] (.int x :: st) h 0 0) := (amWp_dec rfl dX0_step_70 rfl).trans rfl
theorem wX0_step_72 {ret F n h} {v0 v1 v2 v3 v4 v5 st x a} : eX0_step ret F (n + 1) 72 [v0, v1, v2, v3, v4, v5] (.int x :: .ref a :: st) h 0 0 = (eX0_step ret F n 73 [v0, v1, v2, v3, v4, v5] (.int x :: .ref a :: .int x :: .ref a :: st) h 0 0) := (amWp_dec rfl dX0_step_72 rfl).trans (amS2 rfl rfl)
theorem wX0_step_73 {ret F n h} {v0 v1 v2 v3 v4 v5 st x a} : eX0_step ret F (n + 1) 73 [v0, v1, v2, v3, v4, v5] (.int x :: .ref a :: st) h 0 0 = ((h.1 a).1 = 2 ∧ vp_in x (h.1 a).2 ∧ eX0_step ret F n 74 [v0, v1, v2, v3, v4, v5] (.int (h.2.1 a x.toNatClampNeg) :: st) h 0 0) := (amWp_dec rfl dX0_step_73 rfl).trans rfl
theorem wX0_step_74 {ret F n h} {v0 v1 v2 v3 v4 v5 st} : eX0_step ret F (n + 1) 74 [v0, v1, v2, v3, v4, v5] (st) h 0 0 = (amIsR v0 ∧ eX0_step ret F n 75 [v0, v1, v2, v3, v4, v5] (v0 :: st) h 0 0) := (amWp_dec rfl dX0_step_74 rfl).trans rfl
theorem wX0_step_75 {ret F n h} {v0 v1 v2 v3 v4 v5 r0 r1 r2 a} : eX0_step ret F (n + 1) 75 [v0, v1, v2, v3, v4, v5] (.ref a :: r0 :: r1 :: r2 :: []) h 0 0 = (h.1 a = (0, 0) ∧ eX0_step ret F n 78 [v0, v1, v2, v3, v4, v5] (va_rf (h.2.2.2.1 a 2) :: r0 :: r1 :: r2 :: []) h 0 0) := (amWp_dec rfl dX0_step_75 rfl).trans (amS4 (Nat.le_of_ble_eq_true rfl) (Nat.le_of_ble_eq_true rfl) (Nat.le_of_ble_eq_true rfl) (Nat.le_of_ble_eq_true rfl))
theorem wX0_step_78 {ret F n h} {v0 v1 v2 v3 v4 st x} : eX0_step ret F (n + 1) 78 [v0, v1, v2, v3, v4, .int x] (st) h 0 0 = (eX0_step ret F n 80 [v0, v1, v2, v3, v4, .int x] (.int x :: st) h 0 0) := (amWp_dec rfl dX0_step_78 rfl).trans rfl
theorem wX0_step_80 {ret F n h} {v0 v1 v2 v3 v4 v5 st x a} : eX0_step ret F (n + 1) 80 [v0, v1, v2, v3, v4, v5] (.int x :: .ref a :: st) h 0 0 = ((h.1 a).1 = 2 ∧ vp_in x (h.1 a).2 ∧ eX0_step ret F n 81 [v0, v1, v2, v3, v4, v5] (.int (h.2.1 a x.toNatClampNeg) :: st) h 0 0) := (amWp_dec rfl dX0_step_80 rfl).trans rfl
theorem wX0_step_81 {ret F n h} {v0 v1 v2 v3 v4 v5 st} : eX0_step ret F (n + 1) 81 [v0, v1, v2, v3, v4, v5] (st) h 0 0 = (eX0_step ret F n 83 [v0, v1, v2, v3, v4, v5] (.int (nI 9) :: st) h 0 0) := (amWp_dec rfl dX0_step_81 rfl).trans rfl
theorem wX0_step_83 {ret F n h} {v0 v1 v2 v3 v4 v5 st y x} : eX0_step ret F (n + 1) 83 [v0, v1, v2, v3, v4, v5] (.int y :: .int x :: st) h 0 0 = ((y ≤ x → eX0_step ret F n 90 [v0, v1, v2, v3, v4, v5] (st) h 0 0) ∧ (¬ y ≤ x → eX0_step ret F n 86 [v0, v1, v2, v3, v4, v5] (st) h 0 0)) := (amWp_dec rfl dX0_step_83 rfl).trans rfl
theorem wX0_step_86 {ret F n h} {v0 v1 v2 v3 v4 v5 st} : eX0_step ret F (n + 1) 86 [v0, v1, v2, v3, v4, v5] (st) h 0 0 = (eX0_step ret F n 87 [v0, v1, v2, v3, v4, v5] (.int (nI 1) :: st) h 0 0) := (amWp_dec rfl dX0_step_86 rfl).trans rfl
theorem wX0_step_87 {ret F n h} {v0 v1 v2 v3 v4 v5 st} : eX0_step ret F (n + 1) 87 [v0, v1, v2, v3, v4, v5] (st) h 0 0 = (eX0_step ret F n 91 [v0, v1, v2, v3, v4, v5] (st) h 0 0) := (amWp_dec rfl dX0_step_87 rfl).trans rfl
theorem wX0_step_90 {ret F n h} {v0 v1 v2 v3 v4 v5 st} : eX0_step ret F (n + 1) 90 [v0, v1, v2, v3, v4, v5] (st) h 0 0 = (eX0_step ret F n 91 [v0, v1, v2, v3, v4, v5] (.int (nI 0) :: st) h 0 0) := (amWp_dec rfl dX0_step_90 rfl).trans rfl
theorem wX0_step_91 {ret F n h} {v0 v1 v2 v3 v4 v5 st y x} : eX0_step ret F (n + 1) 91 [v0, v1, v2, v3, v4, v5] (.int y :: .int x :: st) h 0 0 = (eX0_step ret F n 92 [v0, v1, v2, v3, v4, v5] (.int (x + y) :: st) h 0 0) := (amWp_dec rfl dX0_step_91 rfl).trans rfl
theorem wX0_step_92 {ret F n h} {v0 v1 v2 v3 v4 v5 st x} : eX0_step ret F (n + 1) 92 [v0, v1, v2, v3, v4, v5] (.int x :: st) h 0 0 = (eX0_step ret F n 93 [v0, v1, v2, v3, v4, v5] (.int x.toInt8.toInt32 :: st) h 0 0) := (amWp_dec rfl dX0_step_92 rfl).trans rfl
theorem wX0_step_93 {ret F n h} {v0 v1 v2 v3 v4 v5 st y x a} : eX0_step ret F (n + 1) 93 [v0, v1, v2, v3, v4, v5] (.int y :: .int x :: .ref a :: st) h 0 0 = ((h.1 a).1 = 2 ∧ vp_in x (h.1 a).2 ∧ amN0 ≤ a ∧ eX0_step ret F n 94 [v0, v1, v2, v3, v4, v5] (st) (amSI h (amU h.2.1 a x.toNatClampNeg (vp_nar .byte y))) 0 0) := (amWp_dec rfl dX0_step_93 rfl).trans rfl
theorem wX0_step_94 {ret F n h} {v0 v1 v2 v3 v4 v5 st} : eX0_step ret F (n + 1) 94 [v0, v1, v2, v3, v4, v5] (st) h 0 0 = (amIsR v0 ∧ eX0_step ret F n 95 [v0, v1, v2, v3, v4, v5] (v0 :: st) h 0 0) := (amWp_dec rfl dX0_step_94 rfl).trans rfl
theorem wX0_step_95 {ret F n h} {v0 v1 v2 v3 v4 v5 a} : eX0_step ret F (n + 1) 95 [v0, v1, v2, v3, v4, v5] (.ref a :: []) h 0 0 = (h.1 a = (0, 0) ∧ eX0_step ret F n 98 [v0, v1, v2, v3, v4, v5] (va_rf (h.2.2.2.1 a 3) :: []) h 0 0) := (amWp_dec rfl dX0_step_95 rfl).trans (amS4 (Nat.le_of_ble_eq_true rfl) (Nat.le_of_ble_eq_true rfl) (Nat.le_of_ble_eq_true rfl) (Nat.le_of_ble_eq_true rfl))
theorem wX0_step_98 {ret F n h} {v0 v1 v2 v3 v4 st x} : eX0_step ret F (n + 1) 98 [v0, v1, v2, v3, v4, .int x] (st) h 0 0 = (eX0_step ret F n 100 [v0, v1, v2, v3, v4, .int x] (.int x :: st) h 0 0) := (amWp_dec rfl dX0_step_98 rfl).trans rfl
theorem wX0_step_100 {ret F n h} {v0 v2 v3 v4 v5 st x} : eX0_step ret F (n + 1) 100 [v0, .int x, v2, v3, v4, v5] (st) h 0 0 = (eX0_step ret F n 101 [v0, .int x, v2, v3, v4, v5] (.int x :: st) h 0 0) := (amWp_dec rfl dX0_step_100 rfl).trans rfl
theorem wX0_step_101 {ret F n h} {v0 v1 v2 v3 v4 v5 st x} : eX0_step ret F (n + 1) 101 [v0, v1, v2, v3, v4, v5] (.int x :: st) h 0 0 = (eX0_step ret F n 102 [v0, v1, v2, v3, v4, v5] (.int x.toInt8.toInt32 :: st) h 0 0) := (amWp_dec rfl dX0_step_101 rfl).trans rfl
theorem wX0_step_102 {ret F n h} {v0 v1 v2 v3 v4 v5 st y x a} : eX0_step ret F (n + 1) 102 [v0, v1, v2, v3, v4, v5] (.int y :: .int x :: .ref a :: st) h 0 0 = ((h.1 a).1 = 2 ∧ vp_in x (h.1 a).2 ∧ amN0 ≤ a ∧ eX0_step ret F n 103 [v0, v1, v2, v3, v4, v5] (st) (amSI h (amU h.2.1 a x.toNatClampNeg (vp_nar .byte y))) 0 0) := (amWp_dec rfl dX0_step_102 rfl).trans rfl
theorem wX0_step_103 {ret F n ls st h k z} : eX0_step ret F (n + 1) 103 ls st h k z = F 103 ls st h k z := amWp_cut rfl
theorem uX0_step_103 {ret F n h} {v0 v1 v2 v3 v4 v5 st} : sX0_step ret F n 103 [v0, v1, v2, v3, v4, v5] (st) h 0 0 = (amIsR v0 ∧ eX0_step ret F n 104 [v0, v1, v2, v3, v4, v5] (v0 :: st) h 0 0) := (amWs_dec dX0_step_103 rfl).trans rfl
theorem wX0_step_104 {ret F n h} {v0 v1 v2 v3 v4 v5 a} : eX0_step ret F (n + 1) 104 [v0, v1, v2, v3, v4, v5] (.ref a :: []) h 0 0 = (h.1 a = (0, 0) ∧ eX0_step ret F n 107 [v0, v1, v2, v3, v4, v5] (va_rf (h.2.2.2.1 a 2) :: []) h 0 0) := (amWp_dec rfl dX0_step_104 rfl).trans (amS4 (Nat.le_of_ble_eq_true rfl) (Nat.le_of_ble_eq_true rfl) (Nat.le_of_ble_eq_true rfl) (Nat.le_of_ble_eq_true rfl))
theorem wX0_step_107 {ret F n h} {v0 v1 v2 v3 v4 st x} : eX0_step ret F (n + 1) 107 [v0, v1, v2, v3, v4, .int x] (st) h 0 0 = (eX0_step ret F n 109 [v0, v1, v2, v3, v4, .int x] (.int x :: st) h 0 0) := (amWp_dec rfl dX0_step_107 rfl).trans rfl
theorem wX0_step_109 {ret F n h} {v0 v1 v2 v3 v4 v5 st x a} : eX0_step ret F (n + 1) 109 [v0, v1, v2, v3, v4, v5] (.int x :: .ref a :: st) h 0 0 = ((h.1 a).1 = 2 ∧ vp_in x (h.1 a).2 ∧ eX0_step ret F n 110 [v0, v1, v2, v3, v4, v5] (.int (h.2.1 a x.toNatClampNeg) :: st) h 0 0) := (amWp_dec rfl dX0_step_109 rfl).trans rfl
theorem wX0_step_110 {ret F n h} {v0 v1 v2 v3 v4 v5 st x} : eX0_step ret F (n + 1) 110 [v0, v1, v2, v3, v4, v5] (.int x :: st) h 0 0 = ((x ≤ 0 → eX0_step ret F n 170 [v0, v1, v2, v3, v4, v5] (st) h 0 0) ∧ (¬ x ≤ 0 → eX0_step ret F n 113 [v0, v1, v2, v3, v4, v5] (st) h 0 0)) := (amWp_dec rfl dX0_step_110 rfl).trans rfl
theorem wX0_step_113 {ret F n h} {v0 v2 v3 v4 v5 st x} : eX0_step ret F (n + 1) 113 [v0, .int x, v2, v3, v4, v5] (st) h 0 0 = (eX0_step ret F n 114 [v0, .int x, v2, v3, v4, v5] (.int x :: st) h 0 0) := (amWp_dec rfl dX0_step_113 rfl).trans rfl
theorem wX0_step_114 {ret F n h} {v0 v1 v2 v3 v4 v5 st} : eX0_step ret F (n + 1) 114 [v0, v1, v2, v3, v4, v5] (st) h 0 0 = (amIsR v0 ∧ eX0_step ret F n 115 [v0, v1, v2, v3, v4, v5] (v0 :: st) h 0 0) := (amWp_dec rfl dX0_step_114 rfl).trans rfl
theorem wX0_step_115 {ret F n h} {v0 v1 v2 v3 v4 v5 r0 a} : eX0_step ret F (n + 1) 115 [v0, v1, v2, v3, v4, v5] (.ref a :: r0 :: []) h 0 0 = (h.1 a = (0, 0) ∧ eX0_step ret F n 118 [v0, v1, v2, v3, v4, v5] (va_rf (h.2.2.2.1 a 3) :: r0 :: []) h 0 0) := (amWp_dec rfl dX0_step_115 rfl).trans (amS4 (Nat.le_of_ble_eq_true rfl) (Nat.le_of_ble_eq_true rfl) (Nat.le_of_ble_eq_true rfl) (Nat.le_of_ble_eq_true rfl))
theorem wX0_step_118 {ret F n h} {v0 v1 v2 v3 v4 st x} : eX0_step ret F (n + 1) 118 [v0, v1, v2, v3, v4, .int x] (st) h 0 0 = (eX0_step ret F n 120 [v0, v1, v2, v3, v4, .int x] (.int x :: st) h 0 0) := (amWp_dec rfl dX0_step_118 rfl).trans rfl
theorem wX0_step_120 {ret F n h} {v0 v1 v2 v3 v4 v5 st x a} : eX0_step ret F (n + 1) 120 [v0, v1, v2, v3, v4, v5] (.int x :: .ref a :: st) h 0 0 = ((h.1 a).1 = 2 ∧ vp_in x (h.1 a).2 ∧ eX0_step ret F n 121 [v0, v1, v2, v3, v4, v5] (.int (h.2.1 a x.toNatClampNeg) :: st) h 0 0) := (amWp_dec rfl dX0_step_120 rfl).trans rfl
theorem wX0_step_121 {ret F n h} {v0 v1 v2 v3 v4 v5 st y x} : eX0_step ret F (n + 1) 121 [v0, v1, v2, v3, v4, v5] (.int y :: .int x :: st) h 0 0 = (eX0_step ret F n 122 [v0, v1, v2, v3, v4, v5] (.int (x - y) :: st) h 0 0) := (amWp_dec rfl dX0_step_121 rfl).trans rfl
theorem wX0_step_122 {ret F n h} {v0 v1 v2 v3 v4 v5 st} : eX0_step ret F (n + 1) 122 [v0, v1, v2, v3, v4, v5] (st) h 0 0 = (amIsR v0 ∧ eX0_step ret F n 123 [v0, v1, v2, v3, v4, v5] (v0 :: st) h 0 0) := (amWp_dec rfl dX0_step_122 rfl).trans rfl
theorem wX0_step_123 {ret F n h} {v0 v1 v2 v3 v4 v5 r0 a} : eX0_step ret F (n + 1) 123 [v0, v1, v2, v3, v4, v5] (.ref a :: r0 :: []) h 0 0 = (h.1 a = (0, 0) ∧ eX0_step ret F n 126 [v0, v1, v2, v3, v4, v5] (va_rf (h.2.2.2.1 a 1) :: r0 :: []) h 0 0) := (amWp_dec rfl dX0_step_123 rfl).trans (amS4 (Nat.le_of_ble_eq_true rfl) (Nat.le_of_ble_eq_true rfl) (Nat.le_of_ble_eq_true rfl) (Nat.le_of_ble_eq_true rfl))
theorem wX0_step_126 {ret F n h} {v0 v1 v2 v3 v4 v5 st} : eX0_step ret F (n + 1) 126 [v0, v1, v2, v3, v4, v5] (st) h 0 0 = (amIsR v0 ∧ eX0_step ret F n 127 [v0, v1, v2, v3, v4, v5] (v0 :: st) h 0 0) := (amWp_dec rfl dX0_step_126 rfl).trans rfl
theorem wX0_step_127 {ret F n h} {v0 v1 v2 v3 v4 v5 r0 r1 a} : eX0_step ret F (n + 1) 127 [v0, v1, v2, v3, v4, v5] (.ref a :: r0 :: r1 :: []) h 0 0 = (h.1 a = (0, 0) ∧ eX0_step ret F n 130 [v0, v1, v2, v3, v4, v5] (va_rf (h.2.2.2.1 a 0) :: r0 :: r1 :: []) h 0 0) := (amWp_dec rfl dX0_step_127 rfl).trans (amS4 (Nat.le_of_ble_eq_true rfl) (Nat.le_of_ble_eq_true rfl) (Nat.le_of_ble_eq_true rfl) (Nat.le_of_ble_eq_true rfl))
theorem wX0_step_130 {ret F n h} {v0 v1 v2 v3 v4 v5 r0 r1 a} : eX0_step ret F (n + 1) 130 [v0, v1, v2, v3, v4, v5] (.ref a :: r0 :: r1 :: []) h 0 0 = (h.1 a = (0, 1) ∧ eX0_step ret F n 133 [v0, v1, v2, v3, v4, v5] (.int (h.2.1 a 6) :: r0 :: r1 :: []) h 0 0) := (amWp_dec rfl dX0_step_130 rfl).trans (amS4 (Nat.le_of_ble_eq_true rfl) (Nat.le_of_ble_eq_true rfl) (Nat.le_of_ble_eq_true rfl) (Nat.le_of_ble_eq_true rfl))
theorem wX0_step_133 {ret F n h} {v0 v1 v2 v3 v4 v5 st x a} : eX0_step ret F (n + 1) 133 [v0, v1, v2, v3, v4, v5] (.int x :: .ref a :: st) h 0 0 = (6 ≤ (h.1 a).1 ∧ (h.1 a).1 ≤ 8 ∧ vp_in x (h.1 a).2 ∧ eX0_step ret F n 134 [v0, v1, v2, v3, v4, v5] (va_rf (h.2.2.2.1 a x.toNatClampNeg) :: st) h 0 0) := (amWp_dec rfl dX0_step_133 rfl).trans rfl
theorem wX0_step_134 {ret F n h} {v0 v1 v2 v3 v4 v5 st} : eX0_step ret F (n + 1) 134 [v0, v1, v2, v3, v4, v5] (st) h 0 0 = (amIsR v0 ∧ eX0_step ret F n 135 [v0, v1, v2, v3, v4, v5] (v0 :: st) h 0 0) := (amWp_dec rfl dX0_step_134 rfl).trans rfl
theorem wX0_step_135 {ret F n h} {v0 v1 v2 v3 v4 v5 r0 r1 a} : eX0_step ret F (n + 1) 135 [v0, v1, v2, v3, v4, v5] (.ref a :: r0 :: r1 :: []) h 0 0 = (h.1 a = (0, 0) ∧ eX0_step ret F n 138 [v0, v1, v2, v3, v4, v5] (va_rf (h.2.2.2.1 a 2) :: r0 :: r1 :: []) h 0 0) := (amWp_dec rfl dX0_step_135 rfl).trans (amS4 (Nat.le_of_ble_eq_true rfl) (Nat.le_of_ble_eq_true rfl) (Nat.le_of_ble_eq_true rfl) (Nat.le_of_ble_eq_true rfl))
theorem wX0_step_138 {ret F n h} {v0 v1 v2 v3 v4 st x} : eX0_step ret F (n + 1) 138 [v0, v1, v2, v3, v4, .int x] (st) h 0 0 = (eX0_step ret F n 140 [v0, v1, v2, v3, v4, .int x] (.int x :: st) h 0 0) := (amWp_dec rfl dX0_step_138 rfl).trans rfl
theorem wX0_step_140 {ret F n h} {v0 v1 v2 v3 v4 v5 st x a} : eX0_step ret F (n + 1) 140 [v0, v1, v2, v3, v4, v5] (.int x :: .ref a :: st) h 0 0 = ((h.1 a).1 = 2 ∧ vp_in x (h.1 a).2 ∧ eX0_step ret F n 141 [v0, v1, v2, v3, v4, v5] (.int (h.2.1 a x.toNatClampNeg) :: st) h 0 0) := (amWp_dec rfl dX0_step_140 rfl).trans rfl
theorem wX0_step_141 {ret F n h} {v0 v1 v2 v3 v4 v5 x1 x0 r0} : eX0_step ret F (n + 1) 141 [v0, v1, v2, v3, v4, v5] (.int x1 :: .ref x0 :: r0 :: []) h 0 0 = (tRule [.ref x0, .int x1] h (fun v h => eX0_step ret F n 146 [v0, v1, v2, v3, v4, v5] (v.toList ++ (r0 :: [])) h 0 0)) := (amWp_dec rfl dX0_step_141 rfl).trans (amS4 (Nat.le_of_ble_eq_true rfl) (Nat.le_of_ble_eq_true rfl) (Nat.le_of_ble_eq_true rfl) (Nat.le_of_ble_eq_true rfl))
theorem wX0_step_146 {ret F n ls st h k z} : eX0_step ret F (n + 1) 146 ls st h k z = F 146 ls st h k z := amWp_cut rfl
theorem uX0_step_146 {ret F n h} {v0 v1 v2 v3 v4 v5 st y x} : sX0_step ret F n 146 [v0, v1, v2, v3, v4, v5] (.int y :: .int x :: st) h 0 0 = ((x < y → eX0_step ret F n 170 [v0, v1, v2, v3, v4, v5] (st) h 0 0) ∧ (¬ x < y → eX0_step ret F n 149 [v0, v1, v2, v3, v4, v5] (st) h 0 0)) := (amWs_dec dX0_step_146 rfl).trans rfl
theorem wX0_step_149 {ret F n h} {v0 v1 v2 v3 v4 v5 st} : eX0_step ret F (n + 1) 149 [v0, v1, v2, v3, v4, v5] (st) h 0 0 = (amIsR v0 ∧ eX0_step ret F n 150 [v0, v1, v2, v3, v4, v5] (v0 :: st) h 0 0) := (amWp_dec rfl dX0_step_149 rfl).trans rfl
theorem wX0_step_150 {ret F n h} {v0 v1 v2 v3 v4 v5 a} : eX0_step ret F (n + 1) 150 [v0, v1, v2, v3, v4, v5] (.ref a :: []) h 0 0 = (h.1 a = (0, 0) ∧ eX0_step ret F n 153 [v0, v1, v2, v3, v4, v5] (va_rf (h.2.2.2.1 a 2) :: []) h 0 0) := (amWp_dec rfl dX0_step_150 rfl).trans (amS4 (Nat.le_of_ble_eq_true rfl) (Nat.le_of_ble_eq_true rfl) (Nat.le_of_ble_eq_true rfl) (Nat.le_of_ble_eq_true rfl))
theorem wX0_step_153 {ret F n h} {v0 v1 v2 v3 v4 st x} : eX0_step ret F (n + 1) 153 [v0, v1, v2, v3, v4, .int x] (st) h 0 0 = (eX0_step ret F n 155 [v0, v1, v2, v3, v4, .int x] (.int x :: st) h 0 0) := (amWp_dec rfl dX0_step_153 rfl).trans rfl
theorem wX0_step_155 {ret F n h} {v0 v1 v2 v3 v4 v5 st} : eX0_step ret F (n + 1) 155 [v0, v1, v2, v3, v4, v5] (st) h 0 0 = (eX0_step ret F n 156 [v0, v1, v2, v3, v4, v5] (.int (nI 0) :: st) h 0 0) := (amWp_dec rfl dX0_step_155 rfl).trans rfl
theorem wX0_step_156 {ret F n h} {v0 v1 v2 v3 v4 v5 st y x a} : eX0_step ret F (n + 1) 156 [v0, v1, v2, v3, v4, v5] (.int y :: .int x :: .ref a :: st) h 0 0 = ((h.1 a).1 = 2 ∧ vp_in x (h.1 a).2 ∧ amN0 ≤ a ∧ eX0_step ret F n 157 [v0, v1, v2, v3, v4, v5] (st) (amSI h (amU h.2.1 a x.toNatClampNeg (vp_nar .byte y))) 0 0) := (amWp_dec rfl dX0_step_156 rfl).trans rfl
theorem wX0_step_157 {ret F n h} {v0 v1 v2 v3 v4 v5 st} : eX0_step ret F (n + 1) 157 [v0, v1, v2, v3, v4, v5] (st) h 0 0 = (amIsR v0 ∧ eX0_step ret F n 158 [v0, v1, v2, v3, v4, v5] (v0 :: st) h 0 0) := (amWp_dec rfl dX0_step_157 rfl).trans rfl
theorem wX0_step_158 {ret F n h} {v0 v1 v2 v3 v4 v5 a} : eX0_step ret F (n + 1) 158 [v0, v1, v2, v3, v4, v5] (.ref a :: []) h 0 0 = (h.1 a = (0, 0) ∧ eX0_step ret F n 161 [v0, v1, v2, v3, v4, v5] (va_rf (h.2.2.2.1 a 6) :: []) h 0 0) := (amWp_dec rfl dX0_step_158 rfl).trans (amS4 (Nat.le_of_ble_eq_true rfl) (Nat.le_of_ble_eq_true rfl) (Nat.le_of_ble_eq_true rfl) (Nat.le_of_ble_eq_true rfl))
theorem wX0_step_161 {ret F n h} {v0 v2 v3 v4 v5 st x} : eX0_step ret F (n + 1) 161 [v0, .int x, v2, v3, v4, v5] (st) h 0 0 = (eX0_step ret F n 162 [v0, .int x, v2, v3, v4, v5] (.int x :: st) h 0 0) := (amWp_dec rfl dX0_step_161 rfl).trans rfl
theorem wX0_step_162 {ret F n h} {v0 v1 v2 v3 v4 v5 st x a} : eX0_step ret F (n + 1) 162 [v0, v1, v2, v3, v4, v5] (.int x :: .ref a :: st) h 0 0 = (eX0_step ret F n 163 [v0, v1, v2, v3, v4, v5] (.int x :: .ref a :: .int x :: .ref a :: st) h 0 0) := (amWp_dec rfl dX0_step_162 rfl).trans (amS2 rfl rfl)
theorem wX0_step_163 {ret F n h} {v0 v1 v2 v3 v4 v5 st x a} : eX0_step ret F (n + 1) 163 [v0, v1, v2, v3, v4, v5] (.int x :: .ref a :: st) h 0 0 = ((h.1 a).1 = 1 ∧ vp_in x (h.1 a).2 ∧ eX0_step ret F n 164 [v0, v1, v2, v3, v4, v5] (.int (h.2.1 a x.toNatClampNeg) :: st) h 0 0) := (amWp_dec rfl dX0_step_163 rfl).trans rfl
theorem wX0_step_164 {ret F n h} {v0 v1 v2 v3 v4 v5 st} : eX0_step ret F (n + 1) 164 [v0, v1, v2, v3, v4, v5] (st) h 0 0 = (eX0_step ret F n 165 [v0, v1, v2, v3, v4, v5] (.int (nI 1) :: st) h 0 0) := (amWp_dec rfl dX0_step_164 rfl).trans rfl
theorem wX0_step_165 {ret F n h} {v0 v1 v2 v3 v4 st x} : eX0_step ret F (n + 1) 165 [v0, v1, v2, v3, v4, .int x] (st) h 0 0 = (eX0_step ret F n 167 [v0, v1, v2, v3, v4, .int x] (.int x :: st) h 0 0) := (amWp_dec rfl dX0_step_165 rfl).trans rfl
theorem wX0_step_167 {ret F n h} {v0 v1 v2 v3 v4 v5 st y x} : eX0_step ret F (n + 1) 167 [v0, v1, v2, v3, v4, v5] (.int y :: .int x :: st) h 0 0 = (eX0_step ret F n 168 [v0, v1, v2, v3, v4, v5] (.int (x <<< (y &&& 31)) :: st) h 0 0) := (amWp_dec rfl dX0_step_167 rfl).trans rfl
theorem wX0_step_168 {ret F n h} {v0 v1 v2 v3 v4 v5 st y x} : eX0_step ret F (n + 1) 168 [v0, v1, v2, v3, v4, v5] (.int y :: .int x :: st) h 0 0 = (eX0_step ret F n 169 [v0, v1, v2, v3, v4, v5] (.int (x ||| y) :: st) h 0 0) := (amWp_dec rfl dX0_step_168 rfl).trans rfl
theorem wX0_step_169 {ret F n h} {v0 v1 v2 v3 v4 v5 st y x a} : eX0_step ret F (n + 1) 169 [v0, v1, v2, v3, v4, v5] (.int y :: .int x :: .ref a :: st) h 0 0 = ((h.1 a).1 = 1 ∧ vp_in x (h.1 a).2 ∧ amN0 ≤ a ∧ eX0_step ret F n 170 [v0, v1, v2, v3, v4, v5] (st) (amSI h (amU h.2.1 a x.toNatClampNeg y)) 0 0) := (amWp_dec rfl dX0_step_169 rfl).trans rfl
theorem wX0_step_170 {ret F n ls st h k z} : eX0_step ret F (n + 1) 170 ls st h k z = F 170 ls st h k z := amWp_cut rfl
theorem uX0_step_170 {ret F n h} {v0 v1 v2 v3 v4 st x} : sX0_step ret F n 170 [v0, v1, v2, v3, v4, .int x] (st) h 0 0 = (eX0_step ret F n 173 [v0, v1, v2, v3, amClr v4, .int (x + nI 1)] (st) h 0 0) := (amWs_dec dX0_step_170 rfl).trans rfl
theorem wX0_step_173 {ret F n h} {v0 v1 v2 v3 v4 v5 st} : eX0_step ret F (n + 1) 173 [v0, v1, v2, v3, v4, v5] (st) h 0 0 = (eX0_step ret F n 50 [v0, v1, v2, v3, v4, v5] (st) h 0 0) := (amWp_dec rfl dX0_step_173 rfl).trans rfl
theorem wX0_step_176 {ret F n ls st h k z} : eX0_step ret F (n + 1) 176 ls st h k z = F 176 ls st h k z := amWp_cut rfl
theorem uX0_step_176 {ret F n h} {v0 v1 v2 v3 v4 v5 st} : sX0_step ret F n 176 [v0, v1, v2, v3, v4, v5] (st) h 0 0 = (amIsR v0 ∧ eX0_step ret F n 177 [v0, v1, v2, v3, v4, v5] (v0 :: st) h 0 0) := (amWs_dec dX0_step_176 rfl).trans rfl
theorem wX0_step_177 {ret F n h} {v0 v1 v2 v3 v4 v5 a} : eX0_step ret F (n + 1) 177 [v0, v1, v2, v3, v4, v5] (.ref a :: []) h 0 0 = (h.1 a = (0, 0) ∧ eX0_step ret F n 180 [v0, v1, v2, v3, v4, v5] (va_rf (h.2.2.2.1 a 7) :: []) h 0 0) := (amWp_dec rfl dX0_step_177 rfl).trans (amS4 (Nat.le_of_ble_eq_true rfl) (Nat.le_of_ble_eq_true rfl) (Nat.le_of_ble_eq_true rfl) (Nat.le_of_ble_eq_true rfl))
theorem wX0_step_180 {ret F n h} {v0 v2 v3 v4 v5 st x} : eX0_step ret F (n + 1) 180 [v0, .int x, v2, v3, v4, v5] (st) h 0 0 = (eX0_step ret F n 181 [v0, .int x, v2, v3, v4, v5] (.int x :: st) h 0 0) := (amWp_dec rfl dX0_step_180 rfl).trans rfl
theorem wX0_step_181 {ret F n h} {v0 v1 v2 v3 v4 v5 st} : eX0_step ret F (n + 1) 181 [v0, v1, v2, v3, v4, v5] (st) h 0 0 = (amIsR v0 ∧ eX0_step ret F n 182 [v0, v1, v2, v3, v4, v5] (v0 :: st) h 0 0) := (amWp_dec rfl dX0_step_181 rfl).trans rfl
theorem wX0_step_182 {ret F n h} {v0 v1 v2 v3 v4 v5 x0 r0 r1} : eX0_step ret F (n + 1) 182 [v0, v1, v2, v3, v4, v5] (.ref x0 :: r0 :: r1 :: []) h 0 0 = (h.1 x0 = (0, 0) ∧ tX0_strong [.ref x0] h (fun v h => eX0_step ret F n 185 [v0, v1, v2, v3, v4, v5] (v.toList ++ (r0 :: r1 :: [])) h 0 0)) := (amWp_dec rfl dX0_step_182 rfl).trans (amS4 (Nat.le_of_ble_eq_true rfl) (Nat.le_of_ble_eq_true rfl) (Nat.le_of_ble_eq_true rfl) (Nat.le_of_ble_eq_true rfl))
theorem wX0_step_185 {ret F n h} {v0 v1 v2 v3 v4 v5 st y x a} : eX0_step ret F (n + 1) 185 [v0, v1, v2, v3, v4, v5] (.int y :: .int x :: .ref a :: st) h 0 0 = ((h.1 a).1 = 1 ∧ vp_in x (h.1 a).2 ∧ amN0 ≤ a ∧ eX0_step ret F n 186 [v0, v1, v2, v3, v4, v5] (st) (amSI h (amU h.2.1 a x.toNatClampNeg y)) 0 0) := (amWp_dec rfl dX0_step_185 rfl).trans rfl
theorem wX0_step_186 {ret F n h} {v0 v1 v2 v3 v4 v5} : eX0_step ret F (n + 1) 186 [v0, v1, v2, v3, v4, v5] ([]) h 0 0 = (ret none h 0 0) := (amWp_dec rfl dX0_step_186 rfl).trans (amTrue rfl)
theorem evX0_step (l : Launch) (G : amG) : ∀ pc S i sz, amLk rX0_step pc = some S → decode cX0_step pc = .ok (i, sz) → amSiteP pc G l yX0_step.cls yX0_step.name yX0_step.desc (amRm 4 0 0) i sz S.1 S.2.1 S.2.2.1 S.2.2.2 := amLk_ok (by
  refine List.forall_mem_cons.mpr ⟨⟨_, _, dX0_step_2, amSite.P (amSiteGet ⟨_, rfl, by decide, Or.inl q301⟩)⟩, ?_⟩
  refine List.forall_mem_cons.mpr ⟨⟨_, _, dX0_step_5, amSite.P (amSiteGet ⟨_, rfl, by decide, Or.inr ⟨"ReadingStages", List.mem_of_getElem? (i := 5) rfl⟩⟩)⟩, ?_⟩
  refine List.forall_mem_cons.mpr ⟨⟨_, _, dX0_step_13, amSite.P (amSiteV (C := RX0) (metX0_strong l G) rfl (by decide) (by decide) (lw_V q442 q444 qs10 q86 q445) ⟨_, rfl, rfl⟩ ⟨rfl, by decide +kernel, by decide +kernel, by decide +kernel⟩)⟩, ?_⟩
  refine List.forall_mem_cons.mpr ⟨⟨_, _, dX0_step_19, amSite.P (amSiteGet ⟨_, rfl, by decide, Or.inl q305⟩)⟩, ?_⟩
  refine List.forall_mem_cons.mpr ⟨⟨_, _, dX0_step_31, amSite.P (amSiteGet ⟨_, rfl, by decide, Or.inl q306⟩)⟩, ?_⟩
  refine List.forall_mem_cons.mpr ⟨⟨_, _, dX0_step_41, amSite.P (amSiteGet ⟨_, rfl, by decide, Or.inl q307⟩)⟩, ?_⟩
  refine List.forall_mem_cons.mpr ⟨⟨_, _, dX0_step_60, amSite.P (amSiteS (metX0_has l G) rfl (by decide) (by decide) (lw_S q435 q436 q86 q437) ⟨by decide +kernel, by decide +kernel, by decide +kernel⟩)⟩, ?_⟩
  refine List.forall_mem_cons.mpr ⟨⟨_, _, dX0_step_67, amSite.P (amSiteGet ⟨_, rfl, by decide, Or.inl q303⟩)⟩, ?_⟩
  refine List.forall_mem_cons.mpr ⟨⟨_, _, dX0_step_75, amSite.P (amSiteGet ⟨_, rfl, by decide, Or.inl q303⟩)⟩, ?_⟩
  refine List.forall_mem_cons.mpr ⟨⟨_, _, dX0_step_95, amSite.P (amSiteGet ⟨_, rfl, by decide, Or.inl q304⟩)⟩, ?_⟩
  refine List.forall_mem_cons.mpr ⟨⟨_, _, dX0_step_104, amSite.P (amSiteGet ⟨_, rfl, by decide, Or.inl q303⟩)⟩, ?_⟩
  refine List.forall_mem_cons.mpr ⟨⟨_, _, dX0_step_115, amSite.P (amSiteGet ⟨_, rfl, by decide, Or.inl q304⟩)⟩, ?_⟩
  refine List.forall_mem_cons.mpr ⟨⟨_, _, dX0_step_123, amSite.P (amSiteGet ⟨_, rfl, by decide, Or.inl q302⟩)⟩, ?_⟩
  refine List.forall_mem_cons.mpr ⟨⟨_, _, dX0_step_127, amSite.P (amSiteGet ⟨_, rfl, by decide, Or.inl q301⟩)⟩, ?_⟩
  refine List.forall_mem_cons.mpr ⟨⟨_, _, dX0_step_130, amSite.P (amSiteGet ⟨_, rfl, by decide, Or.inr ⟨"ReadingStages", List.mem_of_getElem? (i := 8) rfl⟩⟩)⟩, ?_⟩
  refine List.forall_mem_cons.mpr ⟨⟨_, _, dX0_step_135, amSite.P (amSiteGet ⟨_, rfl, by decide, Or.inl q303⟩)⟩, ?_⟩
  refine List.forall_mem_cons.mpr ⟨⟨_, _, dX0_step_141, amSite.P (amSiteRule rfl (by decide))⟩, ?_⟩
  refine List.forall_mem_cons.mpr ⟨⟨_, _, dX0_step_150, amSite.P (amSiteGet ⟨_, rfl, by decide, Or.inl q303⟩)⟩, ?_⟩
  refine List.forall_mem_cons.mpr ⟨⟨_, _, dX0_step_158, amSite.P (amSiteGet ⟨_, rfl, by decide, Or.inl q307⟩)⟩, ?_⟩
  refine List.forall_mem_cons.mpr ⟨⟨_, _, dX0_step_177, amSite.P (amSiteGet ⟨_, rfl, by decide, Or.inl q308⟩)⟩, ?_⟩
  refine List.forall_mem_cons.mpr ⟨⟨_, _, dX0_step_182, amSite.P (amSiteV (C := RX0) (metX0_strong l G) rfl (by decide) (by decide) (lw_V q442 q444 qs10 q86 q445) ⟨_, rfl, rfl⟩ ⟨rfl, by decide +kernel, by decide +kernel, by decide +kernel⟩)⟩, ?_⟩
  exact fun _ h => absurd h List.not_mem_nil)
theorem goX0_step {ret F} (hF : amCld cX0_step kX0_step (amLk rX0_step) none 0 0 ret F) (n : Nat) {pc ls st h k z} (q : sX0_step ret F n pc ls st h k z) : F pc ls st h k z := hF.1 n pc ls st h k z q
theorem metX0_step (l : Launch) (G : amG) : amMet l G yX0_step (ws_ yX0_step cX0_step 6 none) 4 0 0 tX0_step := by
  refine amMet_of (cut := kX0_step) (by decide +kernel) (evX0_step l G) ?_
  intro as h K hT
  match as, hT with
  | [.ref a, .int p0, .int w0], ⟨S, D, words, e, hR, hS, hB, hO, hD, hn, e1, e2, hw, hK⟩ =>
  refine ⟨Nat.le_of_ble_eq_true rfl, fun F hF => ?_⟩
  show F 0 [.ref a, .int p0, .int w0, .retAddr 0, .retAddr 0, .retAddr 0] [] h 0 0
  obtain ⟨a, rfl⟩ : ∃ i : Nat, i = a := ⟨_, rfl⟩
  subst e; subst e1; subst e2
  obtain ⟨hB1, hB2, hB3, hB4⟩ := hB
  have h25 := hS.prior
  have hrule := hS.rule
  have hspan := hS.span
  generalize hp : D.2.length = p at hK
  have hp7 : p < 7 := by omega
  have fin : ∀ m, (∀ i : Nat, i < 20 → m 31 i = nI (w2 D.1 S.span S.rule S.prior words p i).1) → (∀ i : Nat, i < 20 → 0 < (w2 D.1 S.span S.rule S.prior words p i).1 → m 32 i = nI (w2 D.1 S.span S.rule S.prior words p i).2) → m 33 p = nI (bitsOf (freshB D.1 S.prior words) 20) → m 34 p = nI (bitsOf (againB D.1 S.prior words) 20) → m 35 p = nI (bitsOf (goneW D.1 S.span S.rule S.prior words p) 20) → (∀ i : Nat, (33 ≤ i ∧ i < 37) → ∀ q, q ≠ p → m i q = h.2.1 i q) → rdFr h.2.1 m → ∀ v5, F 176 [.ref 24, .int (nI p), .int (nI words), .int (nI (andn words S.prior)), .int (nI (bitsOf (fun w => decide (0 < (D.1 w).1)) 20)), v5] [] (amSI h m) 0 0 := by
    intro m i1 i2 i3 i4 i5 i6 i7 v5
    have w9 : ∀ w : Nat, w < 20 → m 31 w = nI (w2 D.1 S.span S.rule S.prior words p w).1 ∧ (w2 D.1 S.span S.rule S.prior words p w).1 < 128 := fun w hw => ⟨i1 w hw, by
      have := (rdStep_ok (span := S.span) (rule := S.rule) (prior := S.prior) hO words w).1
      rw [← hp]
      exact Nat.lt_of_le_of_lt this (by decide)⟩
    refine goX0_step hF 60 ?_
    simp (disch := omega) only [wX0_step_0, uX0_step_0, wX0_step_1, wX0_step_2, wX0_step_5, wX0_step_8, wX0_step_9, wX0_step_10, wX0_step_11, wX0_step_12, wX0_step_13, wX0_step_16, wX0_step_18, wX0_step_19, wX0_step_22, wX0_step_23, wX0_step_24, wX0_step_26, wX0_step_27, wX0_step_28, wX0_step_29, wX0_step_30, wX0_step_31, wX0_step_34, wX0_step_35, wX0_step_36, wX0_step_38, wX0_step_39, wX0_step_40, wX0_step_41, wX0_step_44, wX0_step_45, wX0_step_46, wX0_step_47, wX0_step_48, wX0_step_50, uX0_step_50, wX0_step_52, wX0_step_54, wX0_step_57, wX0_step_58, wX0_step_60, wX0_step_63, wX0_step_66, wX0_step_67, wX0_step_70, wX0_step_72, wX0_step_73, wX0_step_74, wX0_step_75, wX0_step_78, wX0_step_80, wX0_step_81, wX0_step_83, wX0_step_86, wX0_step_87, wX0_step_90, wX0_step_91, wX0_step_92, wX0_step_93, wX0_step_94, wX0_step_95, wX0_step_98, wX0_step_100, wX0_step_101, wX0_step_102, wX0_step_103, uX0_step_103, wX0_step_104, wX0_step_107, wX0_step_109, wX0_step_110, wX0_step_113, wX0_step_114, wX0_step_115, wX0_step_118, wX0_step_120, wX0_step_121, wX0_step_122, wX0_step_123, wX0_step_126, wX0_step_127, wX0_step_130, wX0_step_133, wX0_step_134, wX0_step_135, wX0_step_138, wX0_step_140, wX0_step_141, wX0_step_146, uX0_step_146, wX0_step_149, wX0_step_150, wX0_step_153, wX0_step_155, wX0_step_156, wX0_step_157, wX0_step_158, wX0_step_161, wX0_step_162, wX0_step_163, wX0_step_164, wX0_step_165, wX0_step_167, wX0_step_168, wX0_step_169, wX0_step_170, uX0_step_170, wX0_step_173, wX0_step_176, uX0_step_176, wX0_step_177, wX0_step_180, wX0_step_181, wX0_step_182, wX0_step_185, wX0_step_186, amSI_1, amSI_2, amSI_3, amSI_s, amU_at, amIsR_ref, amIsR_null, amIsR_rf, amRf_some, amRf_none, amClr_int, amClr_ref, amClr_null, amClr_long, amClr_ra, amClr_rf, amFit_int, amFit_oref, amFit_aref, amFit_onull, amFit_anull, amOptSome, amOptNone, List.cons_append, List.nil_append, true_and, and_true, true_implies, not_true_eq_false, not_false_eq_true, false_implies, and_self, Nat.add_zero, Nat.zero_add, ne_eq, Prod.mk.injEq, amC01_0, amC01_1, amC01_nb, amNb0, amNb1, amTcpI_d, Nat.reduceLeDiff, Nat.reduceAdd, Nat.reduceSub, Nat.reduceEqDiff, Nat.le_refl, amN0le, hR.s, hR.r, amLeI, amLtI, amEqI, amLe0, amGt0, amEq0, amNotPosI, amGe0, amVI, amCl_nI, amAdd, amSub, amMul, tX0_strong_d]
    refine ⟨_, hR, w9, ?_⟩
    refine amRet.of (by decide) (by decide) (hK _ ⟨fun w hw => ⟨?_, fun q => ?_⟩, fun q hq => ?_⟩ ?_)
    · simp (disch := omega) only [amU_at, amU_ne, amU_nj, amU_neR, up_ne, up_at, amSI_2]
      exact (i1 w hw).trans (by rw [← hp]; rfl)
    · simp (disch := omega) only [amU_at, amU_ne, amU_nj, amU_neR, up_ne, up_at, amSI_2]
      have e : (rdStep S.span S.rule S.prior D words).1 w = w2 D.1 S.span S.rule S.prior words p w := by rw [← hp]; rfl
      rw [e] at q ⊢
      exact i2 w hw q
    · rw [rdStep_len, hp] at hq
      have e : (rdStep S.span S.rule S.prior D words).2 = D.2 ++ [showP D.1 S.span S.rule S.prior words p] := by rw [← hp]; rfl
      by_cases r : q = p
      · subst r
        have e2 : (rdStep S.span S.rule S.prior D words).2.getD q PL0 = showP D.1 S.span S.rule S.prior words q := by
          rw [e, List.getD_eq_getElem?_getD, List.getElem?_append_right (by omega), hp]
          simp
        rw [e2]
        simp (disch := omega) only [amU_at, amU_ne, amU_nj, amU_neR, up_ne, up_at, amSI_2]
        exact ⟨i3, i4, i5, rfl⟩
      · have e2 : (rdStep S.span S.rule S.prior D words).2.getD q PL0 = D.2.getD q PL0 := by
          rw [e, List.getD_eq_getElem?_getD, List.getElem?_append_left (by omega), List.getD_eq_getElem?_getD]
        rw [e2]
        have := hD.2 q (by omega)
        rw [← i6 33 (by omega) q r, ← i6 34 (by omega) q r, ← i6 35 (by omega) q r, ← i6 36 (by omega) q r] at this
        simp (disch := omega) only [amU_at, amU_ne, amU_nj, amU_neR, up_ne, up_at, amSI_2]
        exact this
    · intro i hi
      simp (disch := omega) only [amU_at, amU_ne, amU_nj, amU_neR, up_ne, up_at, amSI_2]
      exact i7 i hi
  have gp : ∀ j, j < 20 → (w1 D.1 S.prior words p j).1 ≤ 9 ∧ (0 < (w1 D.1 S.prior words p j).1 → (w1 D.1 S.prior words p j).2 ≤ p) := fun j _ => by have := w1_ok hO S.prior words j; rw [hp] at this; exact this
  have mid : ∀ j m, j < 20 → (∀ m', (∀ i : Nat, i < 20 → m' 31 i = nI (if i < j + 1 then (w2 D.1 S.span S.rule S.prior words p i).1 else (D.1 i).1)) → (∀ i : Nat, i < 20 → (if i < j + 1 then 0 < (w2 D.1 S.span S.rule S.prior words p i).1 → m' 32 i = nI (w2 D.1 S.span S.rule S.prior words p i).2 else 0 < (D.1 i).1 → m' 32 i = nI (D.1 i).2)) → m' 33 p = nI (bitsOf (freshB D.1 S.prior words) 20) → m' 34 p = nI (bitsOf (againB D.1 S.prior words) 20) → m' 35 p = nI (bitsOf (goneW D.1 S.span S.rule S.prior words p) (j + 1)) → (∀ i : Nat, (33 ≤ i ∧ i < 37) → ∀ q, q ≠ p → m' i q = h.2.1 i q) → rdFr h.2.1 m' → F 50 [.ref 24, .int (nI p), .int (nI words), .int (nI (andn words S.prior)), .int (nI (bitsOf (fun w => decide (0 < (D.1 w).1)) 20)), .int (nI (j + 1))] [] (amSI h m') 0 0) → (∀ i : Nat, i < 20 → m 31 i = nI (if i < j then (w2 D.1 S.span S.rule S.prior words p i).1 else if i = j then (w1 D.1 S.prior words p i).1 else (D.1 i).1)) → (∀ i : Nat, i < 20 → (if i < j then 0 < (w2 D.1 S.span S.rule S.prior words p i).1 → m 32 i = nI (w2 D.1 S.span S.rule S.prior words p i).2 else if i = j then 0 < (w1 D.1 S.prior words p i).1 → m 32 i = nI (w1 D.1 S.prior words p i).2 else 0 < (D.1 i).1 → m 32 i = nI (D.1 i).2)) → m 33 p = nI (bitsOf (freshB D.1 S.prior words) 20) → m 34 p = nI (bitsOf (againB D.1 S.prior words) 20) → m 35 p = nI (bitsOf (goneW D.1 S.span S.rule S.prior words p) j) → (∀ i : Nat, (33 ≤ i ∧ i < 37) → ∀ q, q ≠ p → m i q = h.2.1 i q) → rdFr h.2.1 m → F 103 [.ref 24, .int (nI p), .int (nI words), .int (nI (andn words S.prior)), .int (nI (bitsOf (fun w => decide (0 < (D.1 w).1)) 20)), .int (nI j)] [] (amSI h m) 0 0 := by
    intro j m hj nx i1 i2 i3 i4 i5 i6 i7
    have s1 := i1 j hj
    rw [if_neg (Nat.lt_irrefl j), if_pos rfl] at s1
    have s2 := i2 j hj
    rw [if_neg (Nat.lt_irrefl j), if_pos rfl] at s2
    obtain ⟨b1, b2⟩ := gp j hj
    have m25 : m 25 = h.2.1 25 := i7 25 (by omega)
    have rul : m 25 6 = nI S.rule := by rw [m25]; exact hrule
    have spn : m 25 4 = nI S.span := by rw [m25]; exact hspan
    -- the word stays
    have stay : goneW D.1 S.span S.rule S.prior words p j = false → F 170 [.ref 24, .int (nI p), .int (nI words), .int (nI (andn words S.prior)), .int (nI (bitsOf (fun w => decide (0 < (D.1 w).1)) 20)), .int (nI j)] [] (amSI h m) 0 0 := by
      intro g
      have e : w2 D.1 S.span S.rule S.prior words p j = w1 D.1 S.prior words p j := by unfold w2; rw [g]; rfl
      have := nx m (fun i hi => by
        rw [i1 i hi]
        by_cases r : i < j
        · rw [if_pos r, if_pos (by omega)]
        · by_cases r2 : i = j
          · subst r2; rw [if_neg r, if_pos rfl, if_pos (by omega), e]
          · rw [if_neg r, if_neg r2, if_neg (by omega)]) (fun i hi => by
        have := i2 i hi
        by_cases r : i < j
        · rw [if_pos r] at this; rw [if_pos (by omega)]; exact this
        · by_cases r2 : i = j
          · subst r2; rw [if_neg r, if_pos rfl] at this; rw [if_pos (by omega), e]; exact this
          · rw [if_neg r, if_neg r2] at this; rw [if_neg (by omega)]; exact this) i3 i4 (by rw [i5, bitsOf, g]; simp) i6 i7
      refine goX0_step hF 20 ?_
      simp (disch := omega) only [wX0_step_0, uX0_step_0, wX0_step_1, wX0_step_2, wX0_step_5, wX0_step_8, wX0_step_9, wX0_step_10, wX0_step_11, wX0_step_12, wX0_step_13, wX0_step_16, wX0_step_18, wX0_step_19, wX0_step_22, wX0_step_23, wX0_step_24, wX0_step_26, wX0_step_27, wX0_step_28, wX0_step_29, wX0_step_30, wX0_step_31, wX0_step_34, wX0_step_35, wX0_step_36, wX0_step_38, wX0_step_39, wX0_step_40, wX0_step_41, wX0_step_44, wX0_step_45, wX0_step_46, wX0_step_47, wX0_step_48, wX0_step_50, uX0_step_50, wX0_step_52, wX0_step_54, wX0_step_57, wX0_step_58, wX0_step_60, wX0_step_63, wX0_step_66, wX0_step_67, wX0_step_70, wX0_step_72, wX0_step_73, wX0_step_74, wX0_step_75, wX0_step_78, wX0_step_80, wX0_step_81, wX0_step_83, wX0_step_86, wX0_step_87, wX0_step_90, wX0_step_91, wX0_step_92, wX0_step_93, wX0_step_94, wX0_step_95, wX0_step_98, wX0_step_100, wX0_step_101, wX0_step_102, wX0_step_103, uX0_step_103, wX0_step_104, wX0_step_107, wX0_step_109, wX0_step_110, wX0_step_113, wX0_step_114, wX0_step_115, wX0_step_118, wX0_step_120, wX0_step_121, wX0_step_122, wX0_step_123, wX0_step_126, wX0_step_127, wX0_step_130, wX0_step_133, wX0_step_134, wX0_step_135, wX0_step_138, wX0_step_140, wX0_step_141, wX0_step_146, uX0_step_146, wX0_step_149, wX0_step_150, wX0_step_153, wX0_step_155, wX0_step_156, wX0_step_157, wX0_step_158, wX0_step_161, wX0_step_162, wX0_step_163, wX0_step_164, wX0_step_165, wX0_step_167, wX0_step_168, wX0_step_169, wX0_step_170, uX0_step_170, wX0_step_173, wX0_step_176, uX0_step_176, wX0_step_177, wX0_step_180, wX0_step_181, wX0_step_182, wX0_step_185, wX0_step_186, amSI_1, amSI_2, amSI_3, amSI_s, amU_at, amIsR_ref, amIsR_null, amIsR_rf, amRf_some, amRf_none, amClr_int, amClr_ref, amClr_null, amClr_long, amClr_ra, amClr_rf, amFit_int, amFit_oref, amFit_aref, amFit_onull, amFit_anull, amOptSome, amOptNone, List.cons_append, List.nil_append, true_and, and_true, true_implies, not_true_eq_false, not_false_eq_true, false_implies, and_self, Nat.add_zero, Nat.zero_add, ne_eq, Prod.mk.injEq, amC01_0, amC01_1, amC01_nb, amNb0, amNb1, amTcpI_d, Nat.reduceLeDiff, Nat.reduceAdd, Nat.reduceSub, Nat.reduceEqDiff, Nat.le_refl, amN0le, amAdd]
      exact this
    have go : goneW D.1 S.span S.rule S.prior words p j = true → F 50 [.ref 24, .int (nI p), .int (nI words), .int (nI (andn words S.prior)), .int (nI (bitsOf (fun w => decide (0 < (D.1 w).1)) 20)), .int (nI (j + 1))] [] (amSI h (amU (amU m 31 j (nI 0)) 35 p (nI (bitsOf (goneW D.1 S.span S.rule S.prior words p) j ||| 2 ^ j)))) 0 0 := by
      intro g
      have e : (w2 D.1 S.span S.rule S.prior words p j).1 = 0 := by unfold w2; rw [g]; rfl
      refine nx _ (fun i hi => ?_) (fun i hi => ?_) ?_ ?_ ?_ (fun i hi q hq => ?_) (fun i hi => ?_)
      · by_cases r2 : i = j
        · subst r2
          rw [if_pos (by omega), e]
          simp (disch := omega) only [amU_at, amU_ne, amU_nj, amU_neR, up_ne, up_at, amSI_2]
        · simp (disch := omega) only [amU_at, amU_ne, amU_nj, amU_neR, up_ne, up_at, amSI_2]
          rw [i1 i hi]
          by_cases r : i < j
          · rw [if_pos r, if_pos (by omega)]
          · rw [if_neg r, if_neg r2, if_neg (by omega)]
      · simp (disch := omega) only [amU_at, amU_ne, amU_nj, amU_neR, up_ne, up_at, amSI_2]
        have := i2 i hi
        by_cases r : i < j
        · rw [if_pos r] at this; rw [if_pos (by omega)]; exact this
        · by_cases r2 : i = j
          · subst r2; rw [if_pos (by omega), e]; exact fun q => absurd q (Nat.lt_irrefl 0)
          · rw [if_neg r, if_neg r2] at this; rw [if_neg (by omega)]; exact this
      · simp (disch := omega) only [amU_at, amU_ne, amU_nj, amU_neR, up_ne, up_at, amSI_2]
        exact i3
      · simp (disch := omega) only [amU_at, amU_ne, amU_nj, amU_neR, up_ne, up_at, amSI_2]
        exact i4
      · simp (disch := omega) only [amU_at, amU_ne, amU_nj, amU_neR, up_ne, up_at, amSI_2]
        rw [bitsOf, g]; rfl
      · simp (disch := omega) only [amU_at, amU_ne, amU_nj, amU_neR, up_ne, up_at, amSI_2]
        exact i6 i hi q hq
      · simp (disch := omega) only [amU_at, amU_ne, amU_nj, amU_neR, up_ne, up_at, amSI_2]
        exact i7 i hi
    refine goX0_step hF 60 ?_
    simp (disch := omega) only [wX0_step_0, uX0_step_0, wX0_step_1, wX0_step_2, wX0_step_5, wX0_step_8, wX0_step_9, wX0_step_10, wX0_step_11, wX0_step_12, wX0_step_13, wX0_step_16, wX0_step_18, wX0_step_19, wX0_step_22, wX0_step_23, wX0_step_24, wX0_step_26, wX0_step_27, wX0_step_28, wX0_step_29, wX0_step_30, wX0_step_31, wX0_step_34, wX0_step_35, wX0_step_36, wX0_step_38, wX0_step_39, wX0_step_40, wX0_step_41, wX0_step_44, wX0_step_45, wX0_step_46, wX0_step_47, wX0_step_48, wX0_step_50, uX0_step_50, wX0_step_52, wX0_step_54, wX0_step_57, wX0_step_58, wX0_step_60, wX0_step_63, wX0_step_66, wX0_step_67, wX0_step_70, wX0_step_72, wX0_step_73, wX0_step_74, wX0_step_75, wX0_step_78, wX0_step_80, wX0_step_81, wX0_step_83, wX0_step_86, wX0_step_87, wX0_step_90, wX0_step_91, wX0_step_92, wX0_step_93, wX0_step_94, wX0_step_95, wX0_step_98, wX0_step_100, wX0_step_101, wX0_step_102, wX0_step_103, uX0_step_103, wX0_step_104, wX0_step_107, wX0_step_109, wX0_step_110, wX0_step_113, wX0_step_114, wX0_step_115, wX0_step_118, wX0_step_120, wX0_step_121, wX0_step_122, wX0_step_123, wX0_step_126, wX0_step_127, wX0_step_130, wX0_step_133, wX0_step_134, wX0_step_135, wX0_step_138, wX0_step_140, wX0_step_141, wX0_step_146, uX0_step_146, wX0_step_149, wX0_step_150, wX0_step_153, wX0_step_155, wX0_step_156, wX0_step_157, wX0_step_158, wX0_step_161, wX0_step_162, wX0_step_163, wX0_step_164, wX0_step_165, wX0_step_167, wX0_step_168, wX0_step_169, wX0_step_170, uX0_step_170, wX0_step_173, wX0_step_176, uX0_step_176, wX0_step_177, wX0_step_180, wX0_step_181, wX0_step_182, wX0_step_185, wX0_step_186, amSI_1, amSI_2, amSI_3, amSI_s, amU_at, amIsR_ref, amIsR_null, amIsR_rf, amRf_some, amRf_none, amClr_int, amClr_ref, amClr_null, amClr_long, amClr_ra, amClr_rf, amFit_int, amFit_oref, amFit_aref, amFit_onull, amFit_anull, amOptSome, amOptNone, List.cons_append, List.nil_append, true_and, and_true, true_implies, not_true_eq_false, not_false_eq_true, false_implies, and_self, Nat.add_zero, Nat.zero_add, ne_eq, Prod.mk.injEq, amC01_0, amC01_1, amC01_nb, amNb0, amNb1, amTcpI_d, Nat.reduceLeDiff, Nat.reduceAdd, Nat.reduceSub, Nat.reduceEqDiff, Nat.le_refl, amN0le, hR.s, hR.r, amLeI, amLtI, amEqI, amLe0, amGt0, amEq0, amNotPosI, amGe0, amVI, amCl_nI, amAdd, amSub, amMul, s1]
    refine ⟨fun r => stay ?_, fun r => ?_⟩
    · unfold goneW; rw [r]; rfl
    have sl := s2 (by omega)
    have b2 := b2 (by omega)
    have cmp : ∀ v, v = lastsN S.span S.rule (w1 D.1 S.prior words p j).1 → F 146 [.ref 24, .int (nI p), .int (nI words), .int (nI (andn words S.prior)), .int (nI (bitsOf (fun w => decide (0 < (D.1 w).1)) 20)), .int (nI j)] [.int (nI v), .int (nI (p - (w1 D.1 S.prior words p j).2))] (amSI h m) 0 0 := by
      intro v e
      have hv : v ≤ 1024 := by rw [e]; exact lastsN_lt hB2 b1
      refine goX0_step hF 60 ?_
      simp (disch := omega) only [wX0_step_0, uX0_step_0, wX0_step_1, wX0_step_2, wX0_step_5, wX0_step_8, wX0_step_9, wX0_step_10, wX0_step_11, wX0_step_12, wX0_step_13, wX0_step_16, wX0_step_18, wX0_step_19, wX0_step_22, wX0_step_23, wX0_step_24, wX0_step_26, wX0_step_27, wX0_step_28, wX0_step_29, wX0_step_30, wX0_step_31, wX0_step_34, wX0_step_35, wX0_step_36, wX0_step_38, wX0_step_39, wX0_step_40, wX0_step_41, wX0_step_44, wX0_step_45, wX0_step_46, wX0_step_47, wX0_step_48, wX0_step_50, uX0_step_50, wX0_step_52, wX0_step_54, wX0_step_57, wX0_step_58, wX0_step_60, wX0_step_63, wX0_step_66, wX0_step_67, wX0_step_70, wX0_step_72, wX0_step_73, wX0_step_74, wX0_step_75, wX0_step_78, wX0_step_80, wX0_step_81, wX0_step_83, wX0_step_86, wX0_step_87, wX0_step_90, wX0_step_91, wX0_step_92, wX0_step_93, wX0_step_94, wX0_step_95, wX0_step_98, wX0_step_100, wX0_step_101, wX0_step_102, wX0_step_103, uX0_step_103, wX0_step_104, wX0_step_107, wX0_step_109, wX0_step_110, wX0_step_113, wX0_step_114, wX0_step_115, wX0_step_118, wX0_step_120, wX0_step_121, wX0_step_122, wX0_step_123, wX0_step_126, wX0_step_127, wX0_step_130, wX0_step_133, wX0_step_134, wX0_step_135, wX0_step_138, wX0_step_140, wX0_step_141, wX0_step_146, uX0_step_146, wX0_step_149, wX0_step_150, wX0_step_153, wX0_step_155, wX0_step_156, wX0_step_157, wX0_step_158, wX0_step_161, wX0_step_162, wX0_step_163, wX0_step_164, wX0_step_165, wX0_step_167, wX0_step_168, wX0_step_169, wX0_step_170, uX0_step_170, wX0_step_173, wX0_step_176, uX0_step_176, wX0_step_177, wX0_step_180, wX0_step_181, wX0_step_182, wX0_step_185, wX0_step_186, amSI_1, amSI_2, amSI_3, amSI_s, amU_at, amIsR_ref, amIsR_null, amIsR_rf, amRf_some, amRf_none, amClr_int, amClr_ref, amClr_null, amClr_long, amClr_ra, amClr_rf, amFit_int, amFit_oref, amFit_aref, amFit_onull, amFit_anull, amOptSome, amOptNone, List.cons_append, List.nil_append, true_and, and_true, true_implies, not_true_eq_false, not_false_eq_true, false_implies, and_self, Nat.add_zero, Nat.zero_add, ne_eq, Prod.mk.injEq, amC01_0, amC01_1, amC01_nb, amNb0, amNb1, amTcpI_d, Nat.reduceLeDiff, Nat.reduceAdd, Nat.reduceSub, Nat.reduceEqDiff, Nat.le_refl, amN0le, hR.s, hR.r, amLeI, amLtI, amEqI, amLe0, amGt0, amEq0, amNotPosI, amGe0, amVI, amCl_nI, amAdd, amSub, amMul, i5, nx_p2, nx_or, amByteN]
      refine ⟨fun q => stay ?_, fun q => ?_⟩
      · simp only [goneW, Bool.and_eq_false_iff, decide_eq_false_iff_not]
        right; omega
      · have g := go (by
          simp only [goneW, Bool.and_eq_true, decide_eq_true_eq]
          exact ⟨by omega, by omega⟩)
        simp (disch := omega) only [amU_at, amU_ne, amU_nj, amU_neR, up_ne, up_at, amSI_2, i5, nx_or]
        refine goX0_step hF 60 ?_
        simp (disch := omega) only [wX0_step_0, uX0_step_0, wX0_step_1, wX0_step_2, wX0_step_5, wX0_step_8, wX0_step_9, wX0_step_10, wX0_step_11, wX0_step_12, wX0_step_13, wX0_step_16, wX0_step_18, wX0_step_19, wX0_step_22, wX0_step_23, wX0_step_24, wX0_step_26, wX0_step_27, wX0_step_28, wX0_step_29, wX0_step_30, wX0_step_31, wX0_step_34, wX0_step_35, wX0_step_36, wX0_step_38, wX0_step_39, wX0_step_40, wX0_step_41, wX0_step_44, wX0_step_45, wX0_step_46, wX0_step_47, wX0_step_48, wX0_step_50, uX0_step_50, wX0_step_52, wX0_step_54, wX0_step_57, wX0_step_58, wX0_step_60, wX0_step_63, wX0_step_66, wX0_step_67, wX0_step_70, wX0_step_72, wX0_step_73, wX0_step_74, wX0_step_75, wX0_step_78, wX0_step_80, wX0_step_81, wX0_step_83, wX0_step_86, wX0_step_87, wX0_step_90, wX0_step_91, wX0_step_92, wX0_step_93, wX0_step_94, wX0_step_95, wX0_step_98, wX0_step_100, wX0_step_101, wX0_step_102, wX0_step_103, uX0_step_103, wX0_step_104, wX0_step_107, wX0_step_109, wX0_step_110, wX0_step_113, wX0_step_114, wX0_step_115, wX0_step_118, wX0_step_120, wX0_step_121, wX0_step_122, wX0_step_123, wX0_step_126, wX0_step_127, wX0_step_130, wX0_step_133, wX0_step_134, wX0_step_135, wX0_step_138, wX0_step_140, wX0_step_141, wX0_step_146, uX0_step_146, wX0_step_149, wX0_step_150, wX0_step_153, wX0_step_155, wX0_step_156, wX0_step_157, wX0_step_158, wX0_step_161, wX0_step_162, wX0_step_163, wX0_step_164, wX0_step_165, wX0_step_167, wX0_step_168, wX0_step_169, wX0_step_170, uX0_step_170, wX0_step_173, wX0_step_176, uX0_step_176, wX0_step_177, wX0_step_180, wX0_step_181, wX0_step_182, wX0_step_185, wX0_step_186, amSI_1, amSI_2, amSI_3, amSI_s, amU_at, amIsR_ref, amIsR_null, amIsR_rf, amRf_some, amRf_none, amClr_int, amClr_ref, amClr_null, amClr_long, amClr_ra, amClr_rf, amFit_int, amFit_oref, amFit_aref, amFit_onull, amFit_anull, amOptSome, amOptNone, List.cons_append, List.nil_append, true_and, and_true, true_implies, not_true_eq_false, not_false_eq_true, false_implies, and_self, Nat.add_zero, Nat.zero_add, ne_eq, Prod.mk.injEq, amC01_0, amC01_1, amC01_nb, amNb0, amNb1, amTcpI_d, Nat.reduceLeDiff, Nat.reduceAdd, Nat.reduceSub, Nat.reduceEqDiff, Nat.le_refl, amN0le, amLeI, amLtI, amEqI, amLe0, amGt0, amEq0, amNotPosI, amGe0, amVI, amCl_nI, amAdd, amSub, amMul]
        exact g
    rcases (show S.rule = 0 ∨ S.rule = 1 ∨ S.rule = 2 by omega) with hr | hr | hr
    · rw [rul, hr]
      have := cmp S.span (by simp [lastsN, hr])
      simp (disch := omega) only [wX0_step_0, uX0_step_0, wX0_step_1, wX0_step_2, wX0_step_5, wX0_step_8, wX0_step_9, wX0_step_10, wX0_step_11, wX0_step_12, wX0_step_13, wX0_step_16, wX0_step_18, wX0_step_19, wX0_step_22, wX0_step_23, wX0_step_24, wX0_step_26, wX0_step_27, wX0_step_28, wX0_step_29, wX0_step_30, wX0_step_31, wX0_step_34, wX0_step_35, wX0_step_36, wX0_step_38, wX0_step_39, wX0_step_40, wX0_step_41, wX0_step_44, wX0_step_45, wX0_step_46, wX0_step_47, wX0_step_48, wX0_step_50, uX0_step_50, wX0_step_52, wX0_step_54, wX0_step_57, wX0_step_58, wX0_step_60, wX0_step_63, wX0_step_66, wX0_step_67, wX0_step_70, wX0_step_72, wX0_step_73, wX0_step_74, wX0_step_75, wX0_step_78, wX0_step_80, wX0_step_81, wX0_step_83, wX0_step_86, wX0_step_87, wX0_step_90, wX0_step_91, wX0_step_92, wX0_step_93, wX0_step_94, wX0_step_95, wX0_step_98, wX0_step_100, wX0_step_101, wX0_step_102, wX0_step_103, uX0_step_103, wX0_step_104, wX0_step_107, wX0_step_109, wX0_step_110, wX0_step_113, wX0_step_114, wX0_step_115, wX0_step_118, wX0_step_120, wX0_step_121, wX0_step_122, wX0_step_123, wX0_step_126, wX0_step_127, wX0_step_130, wX0_step_133, wX0_step_134, wX0_step_135, wX0_step_138, wX0_step_140, wX0_step_141, wX0_step_146, uX0_step_146, wX0_step_149, wX0_step_150, wX0_step_153, wX0_step_155, wX0_step_156, wX0_step_157, wX0_step_158, wX0_step_161, wX0_step_162, wX0_step_163, wX0_step_164, wX0_step_165, wX0_step_167, wX0_step_168, wX0_step_169, wX0_step_170, uX0_step_170, wX0_step_173, wX0_step_176, uX0_step_176, wX0_step_177, wX0_step_180, wX0_step_181, wX0_step_182, wX0_step_185, wX0_step_186, amSI_1, amSI_2, amSI_3, amSI_s, amU_at, amIsR_ref, amIsR_null, amIsR_rf, amRf_some, amRf_none, amClr_int, amClr_ref, amClr_null, amClr_long, amClr_ra, amClr_rf, amFit_int, amFit_oref, amFit_aref, amFit_onull, amFit_anull, amOptSome, amOptNone, List.cons_append, List.nil_append, true_and, and_true, true_implies, not_true_eq_false, not_false_eq_true, false_implies, and_self, Nat.add_zero, Nat.zero_add, ne_eq, Prod.mk.injEq, amC01_0, amC01_1, amC01_nb, amNb0, amNb1, amTcpI_d, Nat.reduceLeDiff, Nat.reduceAdd, Nat.reduceSub, Nat.reduceEqDiff, Nat.le_refl, amN0le, hR.s, hR.r, amLeI, amLtI, amEqI, amLe0, amGt0, amEq0, amNotPosI, amGe0, amVI, amCl_nI, amAdd, amSub, amMul, sl, tRule_r0 (h := amSI h m) hR, spn]
      exact this
    · rw [rul, hr]
      have := cmp ((w1 D.1 S.prior words p j).1 * S.span) (by simp [lastsN, hr])
      simp (disch := omega) only [wX0_step_0, uX0_step_0, wX0_step_1, wX0_step_2, wX0_step_5, wX0_step_8, wX0_step_9, wX0_step_10, wX0_step_11, wX0_step_12, wX0_step_13, wX0_step_16, wX0_step_18, wX0_step_19, wX0_step_22, wX0_step_23, wX0_step_24, wX0_step_26, wX0_step_27, wX0_step_28, wX0_step_29, wX0_step_30, wX0_step_31, wX0_step_34, wX0_step_35, wX0_step_36, wX0_step_38, wX0_step_39, wX0_step_40, wX0_step_41, wX0_step_44, wX0_step_45, wX0_step_46, wX0_step_47, wX0_step_48, wX0_step_50, uX0_step_50, wX0_step_52, wX0_step_54, wX0_step_57, wX0_step_58, wX0_step_60, wX0_step_63, wX0_step_66, wX0_step_67, wX0_step_70, wX0_step_72, wX0_step_73, wX0_step_74, wX0_step_75, wX0_step_78, wX0_step_80, wX0_step_81, wX0_step_83, wX0_step_86, wX0_step_87, wX0_step_90, wX0_step_91, wX0_step_92, wX0_step_93, wX0_step_94, wX0_step_95, wX0_step_98, wX0_step_100, wX0_step_101, wX0_step_102, wX0_step_103, uX0_step_103, wX0_step_104, wX0_step_107, wX0_step_109, wX0_step_110, wX0_step_113, wX0_step_114, wX0_step_115, wX0_step_118, wX0_step_120, wX0_step_121, wX0_step_122, wX0_step_123, wX0_step_126, wX0_step_127, wX0_step_130, wX0_step_133, wX0_step_134, wX0_step_135, wX0_step_138, wX0_step_140, wX0_step_141, wX0_step_146, uX0_step_146, wX0_step_149, wX0_step_150, wX0_step_153, wX0_step_155, wX0_step_156, wX0_step_157, wX0_step_158, wX0_step_161, wX0_step_162, wX0_step_163, wX0_step_164, wX0_step_165, wX0_step_167, wX0_step_168, wX0_step_169, wX0_step_170, uX0_step_170, wX0_step_173, wX0_step_176, uX0_step_176, wX0_step_177, wX0_step_180, wX0_step_181, wX0_step_182, wX0_step_185, wX0_step_186, amSI_1, amSI_2, amSI_3, amSI_s, amU_at, amIsR_ref, amIsR_null, amIsR_rf, amRf_some, amRf_none, amClr_int, amClr_ref, amClr_null, amClr_long, amClr_ra, amClr_rf, amFit_int, amFit_oref, amFit_aref, amFit_onull, amFit_anull, amOptSome, amOptNone, List.cons_append, List.nil_append, true_and, and_true, true_implies, not_true_eq_false, not_false_eq_true, false_implies, and_self, Nat.add_zero, Nat.zero_add, ne_eq, Prod.mk.injEq, amC01_0, amC01_1, amC01_nb, amNb0, amNb1, amTcpI_d, Nat.reduceLeDiff, Nat.reduceAdd, Nat.reduceSub, Nat.reduceEqDiff, Nat.le_refl, amN0le, hR.s, hR.r, amLeI, amLtI, amEqI, amLe0, amGt0, amEq0, amNotPosI, amGe0, amVI, amCl_nI, amAdd, amSub, amMul, sl, tRule_r1 (h := amSI h m) hR, spn]
      exact this
    · rw [rul, hr]
      have := cmp (S.span * 2 ^ ((w1 D.1 S.prior words p j).1 - 1)) (by simp [lastsN, hr])
      simp (disch := omega) only [wX0_step_0, uX0_step_0, wX0_step_1, wX0_step_2, wX0_step_5, wX0_step_8, wX0_step_9, wX0_step_10, wX0_step_11, wX0_step_12, wX0_step_13, wX0_step_16, wX0_step_18, wX0_step_19, wX0_step_22, wX0_step_23, wX0_step_24, wX0_step_26, wX0_step_27, wX0_step_28, wX0_step_29, wX0_step_30, wX0_step_31, wX0_step_34, wX0_step_35, wX0_step_36, wX0_step_38, wX0_step_39, wX0_step_40, wX0_step_41, wX0_step_44, wX0_step_45, wX0_step_46, wX0_step_47, wX0_step_48, wX0_step_50, uX0_step_50, wX0_step_52, wX0_step_54, wX0_step_57, wX0_step_58, wX0_step_60, wX0_step_63, wX0_step_66, wX0_step_67, wX0_step_70, wX0_step_72, wX0_step_73, wX0_step_74, wX0_step_75, wX0_step_78, wX0_step_80, wX0_step_81, wX0_step_83, wX0_step_86, wX0_step_87, wX0_step_90, wX0_step_91, wX0_step_92, wX0_step_93, wX0_step_94, wX0_step_95, wX0_step_98, wX0_step_100, wX0_step_101, wX0_step_102, wX0_step_103, uX0_step_103, wX0_step_104, wX0_step_107, wX0_step_109, wX0_step_110, wX0_step_113, wX0_step_114, wX0_step_115, wX0_step_118, wX0_step_120, wX0_step_121, wX0_step_122, wX0_step_123, wX0_step_126, wX0_step_127, wX0_step_130, wX0_step_133, wX0_step_134, wX0_step_135, wX0_step_138, wX0_step_140, wX0_step_141, wX0_step_146, uX0_step_146, wX0_step_149, wX0_step_150, wX0_step_153, wX0_step_155, wX0_step_156, wX0_step_157, wX0_step_158, wX0_step_161, wX0_step_162, wX0_step_163, wX0_step_164, wX0_step_165, wX0_step_167, wX0_step_168, wX0_step_169, wX0_step_170, uX0_step_170, wX0_step_173, wX0_step_176, uX0_step_176, wX0_step_177, wX0_step_180, wX0_step_181, wX0_step_182, wX0_step_185, wX0_step_186, amSI_1, amSI_2, amSI_3, amSI_s, amU_at, amIsR_ref, amIsR_null, amIsR_rf, amRf_some, amRf_none, amClr_int, amClr_ref, amClr_null, amClr_long, amClr_ra, amClr_rf, amFit_int, amFit_oref, amFit_aref, amFit_onull, amFit_anull, amOptSome, amOptNone, List.cons_append, List.nil_append, true_and, and_true, true_implies, not_true_eq_false, not_false_eq_true, false_implies, and_self, Nat.add_zero, Nat.zero_add, ne_eq, Prod.mk.injEq, amC01_0, amC01_1, amC01_nb, amNb0, amNb1, amTcpI_d, Nat.reduceLeDiff, Nat.reduceAdd, Nat.reduceSub, Nat.reduceEqDiff, Nat.le_refl, amN0le, hR.s, hR.r, amLeI, amLtI, amEqI, amLe0, amGt0, amEq0, amNotPosI, amGe0, amVI, amCl_nI, amAdd, amSub, amMul, sl, tRule_r2 (h := amSI h m) hR, spn, nx_shl]
      exact this
  have loop : ∀ t j m, j + t = 20 → (∀ i : Nat, i < 20 → m 31 i = nI (if i < j then (w2 D.1 S.span S.rule S.prior words p i).1 else (D.1 i).1)) → (∀ i : Nat, i < 20 → (if i < j then 0 < (w2 D.1 S.span S.rule S.prior words p i).1 → m 32 i = nI (w2 D.1 S.span S.rule S.prior words p i).2 else 0 < (D.1 i).1 → m 32 i = nI (D.1 i).2)) → m 33 p = nI (bitsOf (freshB D.1 S.prior words) 20) → m 34 p = nI (bitsOf (againB D.1 S.prior words) 20) → m 35 p = nI (bitsOf (goneW D.1 S.span S.rule S.prior words p) j) → (∀ i : Nat, (33 ≤ i ∧ i < 37) → ∀ q, q ≠ p → m i q = h.2.1 i q) → rdFr h.2.1 m → F 50 [.ref 24, .int (nI p), .int (nI words), .int (nI (andn words S.prior)), .int (nI (bitsOf (fun w => decide (0 < (D.1 w).1)) 20)), .int (nI j)] [] (amSI h m) 0 0 := by
    intro t
    induction t with
    | zero =>
      intro j m e1 i1 i2 i3 i4 i5 i6 i7
      have e : j = 20 := by omega
      subst e
      have nx := fin m (fun i hi => by have := i1 i hi; rw [if_pos hi] at this; exact this) (fun i hi => by have := i2 i hi; rw [if_pos hi] at this; exact this) i3 i4 i5 i6 i7 (.int (nI 20))
      refine goX0_step hF 10 ?_
      simp (disch := omega) only [wX0_step_0, uX0_step_0, wX0_step_1, wX0_step_2, wX0_step_5, wX0_step_8, wX0_step_9, wX0_step_10, wX0_step_11, wX0_step_12, wX0_step_13, wX0_step_16, wX0_step_18, wX0_step_19, wX0_step_22, wX0_step_23, wX0_step_24, wX0_step_26, wX0_step_27, wX0_step_28, wX0_step_29, wX0_step_30, wX0_step_31, wX0_step_34, wX0_step_35, wX0_step_36, wX0_step_38, wX0_step_39, wX0_step_40, wX0_step_41, wX0_step_44, wX0_step_45, wX0_step_46, wX0_step_47, wX0_step_48, wX0_step_50, uX0_step_50, wX0_step_52, wX0_step_54, wX0_step_57, wX0_step_58, wX0_step_60, wX0_step_63, wX0_step_66, wX0_step_67, wX0_step_70, wX0_step_72, wX0_step_73, wX0_step_74, wX0_step_75, wX0_step_78, wX0_step_80, wX0_step_81, wX0_step_83, wX0_step_86, wX0_step_87, wX0_step_90, wX0_step_91, wX0_step_92, wX0_step_93, wX0_step_94, wX0_step_95, wX0_step_98, wX0_step_100, wX0_step_101, wX0_step_102, wX0_step_103, uX0_step_103, wX0_step_104, wX0_step_107, wX0_step_109, wX0_step_110, wX0_step_113, wX0_step_114, wX0_step_115, wX0_step_118, wX0_step_120, wX0_step_121, wX0_step_122, wX0_step_123, wX0_step_126, wX0_step_127, wX0_step_130, wX0_step_133, wX0_step_134, wX0_step_135, wX0_step_138, wX0_step_140, wX0_step_141, wX0_step_146, uX0_step_146, wX0_step_149, wX0_step_150, wX0_step_153, wX0_step_155, wX0_step_156, wX0_step_157, wX0_step_158, wX0_step_161, wX0_step_162, wX0_step_163, wX0_step_164, wX0_step_165, wX0_step_167, wX0_step_168, wX0_step_169, wX0_step_170, uX0_step_170, wX0_step_173, wX0_step_176, uX0_step_176, wX0_step_177, wX0_step_180, wX0_step_181, wX0_step_182, wX0_step_185, wX0_step_186, amSI_1, amSI_2, amSI_3, amSI_s, amU_at, amIsR_ref, amIsR_null, amIsR_rf, amRf_some, amRf_none, amClr_int, amClr_ref, amClr_null, amClr_long, amClr_ra, amClr_rf, amFit_int, amFit_oref, amFit_aref, amFit_onull, amFit_anull, amOptSome, amOptNone, List.cons_append, List.nil_append, true_and, and_true, true_implies, not_true_eq_false, not_false_eq_true, false_implies, and_self, Nat.add_zero, Nat.zero_add, ne_eq, Prod.mk.injEq, amC01_0, amC01_1, amC01_nb, amNb0, amNb1, amTcpI_d, Nat.reduceLeDiff, Nat.reduceAdd, Nat.reduceSub, Nat.reduceEqDiff, Nat.le_refl, amN0le, amLeI, amLtI, amEqI, amLe0, amGt0, amEq0, amNotPosI, amGe0, amVI, amCl_nI, amAdd, amSub, amMul]
      exact nx
    | succ t ih =>
      intro j m e1 i1 i2 i3 i4 i5 i6 i7
      have hj : j < 20 := by omega
      have q : (20 ≤ j) = False := eq_false (by omega)
      have md := fun m => mid j m hj (fun m' => ih (j + 1) m' (by omega))
      have al := andn_lt (b := S.prior) (n := 20) hw
      have s1 := i1 j hj
      rw [if_neg (Nat.lt_irrefl j)] at s1
      have o1 := (hO j).1
      have tb : (andn words S.prior).testBit j = metW S.prior words j := andn_tb words S.prior j
      refine goX0_step hF 60 ?_
      simp (disch := omega) only [wX0_step_0, uX0_step_0, wX0_step_1, wX0_step_2, wX0_step_5, wX0_step_8, wX0_step_9, wX0_step_10, wX0_step_11, wX0_step_12, wX0_step_13, wX0_step_16, wX0_step_18, wX0_step_19, wX0_step_22, wX0_step_23, wX0_step_24, wX0_step_26, wX0_step_27, wX0_step_28, wX0_step_29, wX0_step_30, wX0_step_31, wX0_step_34, wX0_step_35, wX0_step_36, wX0_step_38, wX0_step_39, wX0_step_40, wX0_step_41, wX0_step_44, wX0_step_45, wX0_step_46, wX0_step_47, wX0_step_48, wX0_step_50, uX0_step_50, wX0_step_52, wX0_step_54, wX0_step_57, wX0_step_58, wX0_step_60, wX0_step_63, wX0_step_66, wX0_step_67, wX0_step_70, wX0_step_72, wX0_step_73, wX0_step_74, wX0_step_75, wX0_step_78, wX0_step_80, wX0_step_81, wX0_step_83, wX0_step_86, wX0_step_87, wX0_step_90, wX0_step_91, wX0_step_92, wX0_step_93, wX0_step_94, wX0_step_95, wX0_step_98, wX0_step_100, wX0_step_101, wX0_step_102, wX0_step_103, uX0_step_103, wX0_step_104, wX0_step_107, wX0_step_109, wX0_step_110, wX0_step_113, wX0_step_114, wX0_step_115, wX0_step_118, wX0_step_120, wX0_step_121, wX0_step_122, wX0_step_123, wX0_step_126, wX0_step_127, wX0_step_130, wX0_step_133, wX0_step_134, wX0_step_135, wX0_step_138, wX0_step_140, wX0_step_141, wX0_step_146, uX0_step_146, wX0_step_149, wX0_step_150, wX0_step_153, wX0_step_155, wX0_step_156, wX0_step_157, wX0_step_158, wX0_step_161, wX0_step_162, wX0_step_163, wX0_step_164, wX0_step_165, wX0_step_167, wX0_step_168, wX0_step_169, wX0_step_170, uX0_step_170, wX0_step_173, wX0_step_176, uX0_step_176, wX0_step_177, wX0_step_180, wX0_step_181, wX0_step_182, wX0_step_185, wX0_step_186, amSI_1, amSI_2, amSI_3, amSI_s, amU_at, amIsR_ref, amIsR_null, amIsR_rf, amRf_some, amRf_none, amClr_int, amClr_ref, amClr_null, amClr_long, amClr_ra, amClr_rf, amFit_int, amFit_oref, amFit_aref, amFit_onull, amFit_anull, amOptSome, amOptNone, List.cons_append, List.nil_append, true_and, and_true, true_implies, not_true_eq_false, not_false_eq_true, false_implies, and_self, Nat.add_zero, Nat.zero_add, ne_eq, Prod.mk.injEq, amC01_0, amC01_1, amC01_nb, amNb0, amNb1, amTcpI_d, Nat.reduceLeDiff, Nat.reduceAdd, Nat.reduceSub, Nat.reduceEqDiff, Nat.le_refl, amN0le, hR.s, hR.r, amLeI, amLtI, amEqI, amLe0, amGt0, amEq0, amNotPosI, amGe0, amVI, amCl_nI, amAdd, amSub, amMul, tX0_has_d, nx_hasI, q, s1, tb, amByte, amByteN]
      have met : metW S.prior words j = true → F 103 [.ref 24, .int (nI p), .int (nI words), .int (nI (andn words S.prior)), .int (nI (bitsOf (fun w => decide (0 < (D.1 w).1)) 20)), .int (nI j)] [] (amSI h (amU (amU m 31 j (nI (if (D.1 j).1 < 9 then (D.1 j).1 + 1 else (D.1 j).1))) 32 j (nI p))) 0 0 := by
        intro g
        have e : w1 D.1 S.prior words p j = (if (D.1 j).1 < 9 then (D.1 j).1 + 1 else (D.1 j).1, p) := by unfold w1; rw [if_pos g]
        refine md _ (fun i hi => ?_) (fun i hi => ?_) ?_ ?_ ?_ (fun i hi q hq => ?_) (fun i hi => ?_)
        · by_cases r2 : i = j
          · subst r2
            rw [if_neg (Nat.lt_irrefl i), if_pos rfl, e]
            simp (disch := omega) only [amU_at, amU_ne, amU_nj, amU_neR, up_ne, up_at, amSI_2]
          · simp (disch := omega) only [amU_at, amU_ne, amU_nj, amU_neR, up_ne, up_at, amSI_2]
            rw [i1 i hi]
            by_cases r : i < j
            · rw [if_pos r, if_pos r]
            · rw [if_neg r, if_neg r2, if_neg r]
        · have := i2 i hi
          by_cases r : i < j
          · rw [if_pos r] at this; rw [if_pos r]
            simp (disch := omega) only [amU_at, amU_ne, amU_nj, amU_neR, up_ne, up_at, amSI_2]
            exact this
          · by_cases r2 : i = j
            · subst r2
              rw [if_neg r, if_pos rfl, e]
              simp (disch := omega) only [amU_at, amU_ne, amU_nj, amU_neR, up_ne, up_at, amSI_2]
              exact fun _ => trivial
            · rw [if_neg r] at this; rw [if_neg r, if_neg r2]
              simp (disch := omega) only [amU_at, amU_ne, amU_nj, amU_neR, up_ne, up_at, amSI_2]
              exact this
        · simp (disch := omega) only [amU_at, amU_ne, amU_nj, amU_neR, up_ne, up_at, amSI_2]
          exact i3
        · simp (disch := omega) only [amU_at, amU_ne, amU_nj, amU_neR, up_ne, up_at, amSI_2]
          exact i4
        · simp (disch := omega) only [amU_at, amU_ne, amU_nj, amU_neR, up_ne, up_at, amSI_2]
          exact i5
        · simp (disch := omega) only [amU_at, amU_ne, amU_nj, amU_neR, up_ne, up_at, amSI_2]
          exact i6 i hi q hq
        · simp (disch := omega) only [amU_at, amU_ne, amU_nj, amU_neR, up_ne, up_at, amSI_2]
          exact i7 i hi
      refine ⟨fun r => ?_, fun r => ⟨fun r2 => ?_, fun r2 => ?_⟩⟩
      · have e : w1 D.1 S.prior words p j = D.1 j := by unfold w1; rw [if_neg r]
        refine md m (fun i hi => ?_) (fun i hi => ?_) i3 i4 i5 i6 i7
        · rw [i1 i hi]
          by_cases r : i < j
          · rw [if_pos r, if_pos r]
          · by_cases r2 : i = j
            · subst r2; rw [if_neg r, if_neg r, if_pos rfl, e]
            · rw [if_neg r, if_neg r, if_neg r2]
        · have := i2 i hi
          by_cases r : i < j
          · rw [if_pos r] at this; rw [if_pos r]; exact this
          · by_cases r2 : i = j
            · subst r2; rw [if_neg r] at this; rw [if_neg r, if_pos rfl, e]; exact this
            · rw [if_neg r] at this; rw [if_neg r, if_neg r2]; exact this
      · have := met (Classical.not_not.mp r)
        rw [if_neg (by omega)] at this
        exact this
      · have := met (Classical.not_not.mp r)
        rw [if_pos (by omega)] at this
        exact this
  have pw := andn_lt (b := S.prior) (n := 20) hw
  have eF : andn (andn words S.prior) (bitsOf (fun w => decide (0 < (D.1 w).1)) 20) = bitsOf (freshB D.1 S.prior words) 20 := by
    refine bits_ext (andn_lt pw) (fun i hi => ?_)
    rw [andn_tb, andn_tb, bitsOf_tb]
    simp only [freshB, metW, hi, decide_true, Bool.true_and]
    congr 1
    by_cases z : (D.1 i).1 = 0
    · simp [z]
    · simp [z, Nat.pos_of_ne_zero z]
  have eA : andn words S.prior &&& bitsOf (fun w => decide (0 < (D.1 w).1)) 20 = bitsOf (againB D.1 S.prior words) 20 := by
    refine bits_ext (Nat.lt_of_le_of_lt Nat.and_le_left pw) (fun i hi => ?_)
    rw [Nat.testBit_and, andn_tb, bitsOf_tb]
    simp only [againB, metW, hi, decide_true, Bool.true_and]
    congr 1
    by_cases z : (D.1 i).1 = 0
    · simp [z]
    · simp [z, Nat.pos_of_ne_zero z]
  refine goX0_step hF 60 ?_
  simp (disch := omega) only [wX0_step_0, uX0_step_0, wX0_step_1, wX0_step_2, wX0_step_5, wX0_step_8, wX0_step_9, wX0_step_10, wX0_step_11, wX0_step_12, wX0_step_13, wX0_step_16, wX0_step_18, wX0_step_19, wX0_step_22, wX0_step_23, wX0_step_24, wX0_step_26, wX0_step_27, wX0_step_28, wX0_step_29, wX0_step_30, wX0_step_31, wX0_step_34, wX0_step_35, wX0_step_36, wX0_step_38, wX0_step_39, wX0_step_40, wX0_step_41, wX0_step_44, wX0_step_45, wX0_step_46, wX0_step_47, wX0_step_48, wX0_step_50, uX0_step_50, wX0_step_52, wX0_step_54, wX0_step_57, wX0_step_58, wX0_step_60, wX0_step_63, wX0_step_66, wX0_step_67, wX0_step_70, wX0_step_72, wX0_step_73, wX0_step_74, wX0_step_75, wX0_step_78, wX0_step_80, wX0_step_81, wX0_step_83, wX0_step_86, wX0_step_87, wX0_step_90, wX0_step_91, wX0_step_92, wX0_step_93, wX0_step_94, wX0_step_95, wX0_step_98, wX0_step_100, wX0_step_101, wX0_step_102, wX0_step_103, uX0_step_103, wX0_step_104, wX0_step_107, wX0_step_109, wX0_step_110, wX0_step_113, wX0_step_114, wX0_step_115, wX0_step_118, wX0_step_120, wX0_step_121, wX0_step_122, wX0_step_123, wX0_step_126, wX0_step_127, wX0_step_130, wX0_step_133, wX0_step_134, wX0_step_135, wX0_step_138, wX0_step_140, wX0_step_141, wX0_step_146, uX0_step_146, wX0_step_149, wX0_step_150, wX0_step_153, wX0_step_155, wX0_step_156, wX0_step_157, wX0_step_158, wX0_step_161, wX0_step_162, wX0_step_163, wX0_step_164, wX0_step_165, wX0_step_167, wX0_step_168, wX0_step_169, wX0_step_170, uX0_step_170, wX0_step_173, wX0_step_176, uX0_step_176, wX0_step_177, wX0_step_180, wX0_step_181, wX0_step_182, wX0_step_185, wX0_step_186, amSI_1, amSI_2, amSI_3, amSI_s, amU_at, amIsR_ref, amIsR_null, amIsR_rf, amRf_some, amRf_none, amClr_int, amClr_ref, amClr_null, amClr_long, amClr_ra, amClr_rf, amFit_int, amFit_oref, amFit_aref, amFit_onull, amFit_anull, amOptSome, amOptNone, List.cons_append, List.nil_append, true_and, and_true, true_implies, not_true_eq_false, not_false_eq_true, false_implies, and_self, Nat.add_zero, Nat.zero_add, ne_eq, Prod.mk.injEq, amC01_0, amC01_1, amC01_nb, amNb0, amNb1, amTcpI_d, Nat.reduceLeDiff, Nat.reduceAdd, Nat.reduceSub, Nat.reduceEqDiff, Nat.le_refl, amN0le, hR.s, hR.r, h25, amLeI, amLtI, amEqI, amLe0, amGt0, amEq0, amNotPosI, amGe0, amVI, amCl_nI, amAdd, amSub, amMul, nx_not, nx_and, tX0_strong_d]
  refine ⟨fun w => (D.1 w).1, hR, fun w hw => ⟨(hD.1 w hw).1, Nat.lt_of_le_of_lt (hO w).1 (by decide)⟩, ?_⟩
  rw [eF, eA]
  refine loop 20 0 _ (by omega) (fun i hi => ?_) (fun i hi => ?_) ?_ ?_ ?_ (fun i hi q hq => ?_) (fun i hi => ?_)
  · rw [if_neg (Nat.not_lt_zero i)]
    simp (disch := omega) only [amU_at, amU_ne, amU_nj, amU_neR, up_ne, up_at, amSI_2]
    exact (hD.1 i hi).1
  · rw [if_neg (Nat.not_lt_zero i)]
    simp (disch := omega) only [amU_at, amU_ne, amU_nj, amU_neR, up_ne, up_at, amSI_2]
    exact (hD.1 i hi).2
  · simp (disch := omega) only [amU_at, amU_ne, amU_nj, amU_neR, up_ne, up_at, amSI_2]
  · simp (disch := omega) only [amU_at, amU_ne, amU_nj, amU_neR, up_ne, up_at, amSI_2]
  · simp (disch := omega) only [amU_at, amU_ne, amU_nj, amU_neR, up_ne, up_at, amSI_2]
    rfl
  · simp (disch := omega) only [amU_at, amU_ne, amU_nj, amU_neR, up_ne, up_at, amSI_2]
  · simp (disch := omega) only [amU_at, amU_ne, amU_nj, amU_neR, up_ne, up_at, amSI_2]
theorem tX0_step_d {a : Nat} {p0 w0 : Int32} {h : amH} {K : Option Value → amH → Prop} : tX0_step [.ref a, .int p0, .int w0] h K = ∃ (S : HS) (D : RD) (words : Nat), a = (24 : Nat) ∧ rsAt h ∧ HsIs h.2.1 25 S ∧ hsB S ∧ rdOk D ∧ RdIs h.2.1 D ∧ D.2.length < 7 ∧ p0 = nI D.2.length ∧ w0 = nI words ∧ words < 1048576 ∧ ∀ m', RdIs m' (rdStep S.span S.rule S.prior D words) → rdFr h.2.1 m' → K none (amSI h m') := rfl
