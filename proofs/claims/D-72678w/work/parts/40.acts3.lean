/-! acts: ahead, shift, move, undo, seed -/
set_option maxRecDepth 100000
def aheadR (X : XS) (a b : Int32) : XS × Int32 := if ¬ ((a.toNatClampNeg < X.1.ord.length ∧ a = nI a.toNatClampNeg) ∧ (b.toNatClampNeg < X.1.ord.length ∧ b = nI b.toNatClampNeg) ∧ a ≠ b) then (X, -1) else if (X.1.ahead.getD a.toNatClampNeg 0).testBit b.toNatClampNeg = false ∧ X.1.mayBe a.toNatClampNeg b.toNatClampNeg = false then (X, -2) else (actX X (X.1.flip a.toNatClampNeg b.toNatClampNeg), if (X.1.ahead.getD a.toNatClampNeg 0).testBit b.toNatClampNeg = true then nI 0 else nI 1)
def tX0_ahead : amT := fun as h K => match as with
  | [.ref a, .int x, .int y] => ∃ X : XS, a = (24 : Nat) ∧ RsW h X ∧ ∀ h', rsFr h h' → RsW h' (aheadR X x y).1 → K (some (.int (aheadR X x y).2)) h'
  | _ => False
/-! ReadingStages.ahead(II)I -/
def kX0_ahead : Nat → Bool := fun pc => pc == 25 || pc == 56 || pc == 60
def rX0_ahead : List (Nat × amS) := [(3, 2, 0, 0, (amRecv 0 tX0_isBook)), (12, 2, 0, 0, (amRecv 0 tX0_isBook)), (26, 1, 0, 0, amTget 0 0), (29, 1, 0, 0, amTget 1 1), (35, 2, 0, 0, tX0_has), (42, 1, 0, 0, amTget 0 0), (47, 3, 0, 0, (amRecv 1 tX1_mayBeAhead)), (57, 1, 0, 0, (amRecv 0 tX0_note)), (61, 1, 0, 0, amTget 0 0), (64, 1, 0, 0, amTget 1 1), (77, 1, 0, 0, amTget 0 0), (80, 1, 0, 0, amTget 1 1), (86, 2, 0, 0, tX0_has)]
def eX0_ahead (ret : Option Value → amH → Nat → Nat → Prop) (F : amX) : Nat → amX := amWp cX0_ahead kX0_ahead (amLk rX0_ahead) (some .int) 0 0 ret F
def sX0_ahead (ret : Option Value → amH → Nat → Nat → Prop) (F : amX) : Nat → amX := amWs cX0_ahead kX0_ahead (amLk rX0_ahead) (some .int) 0 0 ret F
theorem wX0_ahead_0 {ret F n h} {v0 v1 v2 st} : eX0_ahead ret F (n + 1) 0 [v0, v1, v2] (st) h 0 0 = (amIsR v0 ∧ eX0_ahead ret F n 1 [v0, v1, v2] (v0 :: st) h 0 0) := (amWp_dec rfl dX0_ahead_0 rfl).trans rfl
theorem uX0_ahead_0 {ret F n h} {v0 v1 v2 st} : sX0_ahead ret F n 0 [v0, v1, v2] (st) h 0 0 = (amIsR v0 ∧ eX0_ahead ret F n 1 [v0, v1, v2] (v0 :: st) h 0 0) := (amWs_dec dX0_ahead_0 rfl).trans rfl
theorem wX0_ahead_1 {ret F n h} {v0 v2 st x} : eX0_ahead ret F (n + 1) 1 [v0, .int x, v2] (st) h 0 0 = (eX0_ahead ret F n 2 [v0, .int x, v2] (.int x :: st) h 0 0) := (amWp_dec rfl dX0_ahead_1 rfl).trans rfl
theorem wX0_ahead_2 {ret F n h} {v0 v1 v2 st x} : eX0_ahead ret F (n + 1) 2 [v0, v1, v2] (.int x :: st) h 0 0 = (eX0_ahead ret F n 3 [v0, v1, v2] (.long x.toInt64 :: st) h 0 0) := (amWp_dec rfl dX0_ahead_2 rfl).trans rfl
theorem wX0_ahead_3 {ret F n h} {v0 v1 v2 x1 x0} : eX0_ahead ret F (n + 1) 3 [v0, v1, v2] (.long x1 :: .ref x0 :: []) h 0 0 = (h.1 x0 = (0, 0) ∧ tX0_isBook [.ref x0, .long x1] h (fun v h => eX0_ahead ret F n 6 [v0, v1, v2] (v.toList ++ ([])) h 0 0)) := (amWp_dec rfl dX0_ahead_3 rfl).trans (amS4 (Nat.le_of_ble_eq_true rfl) (Nat.le_of_ble_eq_true rfl) (Nat.le_of_ble_eq_true rfl) (Nat.le_of_ble_eq_true rfl))
theorem wX0_ahead_6 {ret F n h} {v0 v1 v2 st x} : eX0_ahead ret F (n + 1) 6 [v0, v1, v2] (.int x :: st) h 0 0 = ((x = 0 → eX0_ahead ret F n 23 [v0, v1, v2] (st) h 0 0) ∧ (¬ x = 0 → eX0_ahead ret F n 9 [v0, v1, v2] (st) h 0 0)) := (amWp_dec rfl dX0_ahead_6 rfl).trans rfl
theorem wX0_ahead_9 {ret F n h} {v0 v1 v2 st} : eX0_ahead ret F (n + 1) 9 [v0, v1, v2] (st) h 0 0 = (amIsR v0 ∧ eX0_ahead ret F n 10 [v0, v1, v2] (v0 :: st) h 0 0) := (amWp_dec rfl dX0_ahead_9 rfl).trans rfl
theorem wX0_ahead_10 {ret F n h} {v0 v1 st x} : eX0_ahead ret F (n + 1) 10 [v0, v1, .int x] (st) h 0 0 = (eX0_ahead ret F n 11 [v0, v1, .int x] (.int x :: st) h 0 0) := (amWp_dec rfl dX0_ahead_10 rfl).trans rfl
theorem wX0_ahead_11 {ret F n h} {v0 v1 v2 st x} : eX0_ahead ret F (n + 1) 11 [v0, v1, v2] (.int x :: st) h 0 0 = (eX0_ahead ret F n 12 [v0, v1, v2] (.long x.toInt64 :: st) h 0 0) := (amWp_dec rfl dX0_ahead_11 rfl).trans rfl
theorem wX0_ahead_12 {ret F n h} {v0 v1 v2 x1 x0} : eX0_ahead ret F (n + 1) 12 [v0, v1, v2] (.long x1 :: .ref x0 :: []) h 0 0 = (h.1 x0 = (0, 0) ∧ tX0_isBook [.ref x0, .long x1] h (fun v h => eX0_ahead ret F n 15 [v0, v1, v2] (v.toList ++ ([])) h 0 0)) := (amWp_dec rfl dX0_ahead_12 rfl).trans (amS4 (Nat.le_of_ble_eq_true rfl) (Nat.le_of_ble_eq_true rfl) (Nat.le_of_ble_eq_true rfl) (Nat.le_of_ble_eq_true rfl))
theorem wX0_ahead_15 {ret F n h} {v0 v1 v2 st x} : eX0_ahead ret F (n + 1) 15 [v0, v1, v2] (.int x :: st) h 0 0 = ((x = 0 → eX0_ahead ret F n 23 [v0, v1, v2] (st) h 0 0) ∧ (¬ x = 0 → eX0_ahead ret F n 18 [v0, v1, v2] (st) h 0 0)) := (amWp_dec rfl dX0_ahead_15 rfl).trans rfl
theorem wX0_ahead_18 {ret F n h} {v0 v2 st x} : eX0_ahead ret F (n + 1) 18 [v0, .int x, v2] (st) h 0 0 = (eX0_ahead ret F n 19 [v0, .int x, v2] (.int x :: st) h 0 0) := (amWp_dec rfl dX0_ahead_18 rfl).trans rfl
theorem wX0_ahead_19 {ret F n h} {v0 v1 st x} : eX0_ahead ret F (n + 1) 19 [v0, v1, .int x] (st) h 0 0 = (eX0_ahead ret F n 20 [v0, v1, .int x] (.int x :: st) h 0 0) := (amWp_dec rfl dX0_ahead_19 rfl).trans rfl
theorem wX0_ahead_20 {ret F n h} {v0 v1 v2 st y x} : eX0_ahead ret F (n + 1) 20 [v0, v1, v2] (.int y :: .int x :: st) h 0 0 = ((¬ x = y → eX0_ahead ret F n 25 [v0, v1, v2] (st) h 0 0) ∧ (x = y → eX0_ahead ret F n 23 [v0, v1, v2] (st) h 0 0)) := (amWp_dec rfl dX0_ahead_20 rfl).trans rfl
theorem wX0_ahead_23 {ret F n h} {v0 v1 v2 st} : eX0_ahead ret F (n + 1) 23 [v0, v1, v2] (st) h 0 0 = (eX0_ahead ret F n 24 [v0, v1, v2] (.int (-1) :: st) h 0 0) := (amWp_dec rfl dX0_ahead_23 rfl).trans rfl
theorem wX0_ahead_24 {ret F n h} {v0 v1 v2 x} : eX0_ahead ret F (n + 1) 24 [v0, v1, v2] ([.int x]) h 0 0 = (ret (some (.int x)) h 0 0) := (amWp_dec rfl dX0_ahead_24 rfl).trans (amTrue ⟨_, rfl, rfl⟩)
theorem wX0_ahead_25 {ret F n ls st h k z} : eX0_ahead ret F (n + 1) 25 ls st h k z = F 25 ls st h k z := amWp_cut rfl
theorem uX0_ahead_25 {ret F n h} {v0 v1 v2 st} : sX0_ahead ret F n 25 [v0, v1, v2] (st) h 0 0 = (amIsR v0 ∧ eX0_ahead ret F n 26 [v0, v1, v2] (v0 :: st) h 0 0) := (amWs_dec dX0_ahead_25 rfl).trans rfl
theorem wX0_ahead_26 {ret F n h} {v0 v1 v2 a} : eX0_ahead ret F (n + 1) 26 [v0, v1, v2] (.ref a :: []) h 0 0 = (h.1 a = (0, 0) ∧ eX0_ahead ret F n 29 [v0, v1, v2] (va_rf (h.2.2.2.1 a 0) :: []) h 0 0) := (amWp_dec rfl dX0_ahead_26 rfl).trans (amS4 (Nat.le_of_ble_eq_true rfl) (Nat.le_of_ble_eq_true rfl) (Nat.le_of_ble_eq_true rfl) (Nat.le_of_ble_eq_true rfl))
theorem wX0_ahead_29 {ret F n h} {v0 v1 v2 a} : eX0_ahead ret F (n + 1) 29 [v0, v1, v2] (.ref a :: []) h 0 0 = (h.1 a = (0, 1) ∧ eX0_ahead ret F n 32 [v0, v1, v2] (va_rf (h.2.2.2.1 a 1) :: []) h 0 0) := (amWp_dec rfl dX0_ahead_29 rfl).trans (amS4 (Nat.le_of_ble_eq_true rfl) (Nat.le_of_ble_eq_true rfl) (Nat.le_of_ble_eq_true rfl) (Nat.le_of_ble_eq_true rfl))
theorem wX0_ahead_32 {ret F n h} {v0 v2 st x} : eX0_ahead ret F (n + 1) 32 [v0, .int x, v2] (st) h 0 0 = (eX0_ahead ret F n 33 [v0, .int x, v2] (.int x :: st) h 0 0) := (amWp_dec rfl dX0_ahead_32 rfl).trans rfl
theorem wX0_ahead_33 {ret F n h} {v0 v1 v2 st x a} : eX0_ahead ret F (n + 1) 33 [v0, v1, v2] (.int x :: .ref a :: st) h 0 0 = ((h.1 a).1 = 2 ∧ vp_in x (h.1 a).2 ∧ eX0_ahead ret F n 34 [v0, v1, v2] (.int (h.2.1 a x.toNatClampNeg) :: st) h 0 0) := (amWp_dec rfl dX0_ahead_33 rfl).trans rfl
theorem wX0_ahead_34 {ret F n h} {v0 v1 st x} : eX0_ahead ret F (n + 1) 34 [v0, v1, .int x] (st) h 0 0 = (eX0_ahead ret F n 35 [v0, v1, .int x] (.int x :: st) h 0 0) := (amWp_dec rfl dX0_ahead_34 rfl).trans rfl
theorem wX0_ahead_35 {ret F n h} {v0 v1 v2 x1 x0} : eX0_ahead ret F (n + 1) 35 [v0, v1, v2] (.int x1 :: .int x0 :: []) h 0 0 = (tX0_has [.int x0, .int x1] h (fun v h => eX0_ahead ret F n 38 [v0, v1, v2] (v.toList ++ ([])) h 0 0)) := (amWp_dec rfl dX0_ahead_35 rfl).trans (amS4 (Nat.le_of_ble_eq_true rfl) (Nat.le_of_ble_eq_true rfl) (Nat.le_of_ble_eq_true rfl) (Nat.le_of_ble_eq_true rfl))
theorem wX0_ahead_38 {ret F n h} {v0 v1 v2 st x} : eX0_ahead ret F (n + 1) 38 [v0, v1, v2] (.int x :: st) h 0 0 = ((¬ x = 0 → eX0_ahead ret F n 56 [v0, v1, v2] (st) h 0 0) ∧ (x = 0 → eX0_ahead ret F n 41 [v0, v1, v2] (st) h 0 0)) := (amWp_dec rfl dX0_ahead_38 rfl).trans rfl
theorem wX0_ahead_41 {ret F n h} {v0 v1 v2 st} : eX0_ahead ret F (n + 1) 41 [v0, v1, v2] (st) h 0 0 = (amIsR v0 ∧ eX0_ahead ret F n 42 [v0, v1, v2] (v0 :: st) h 0 0) := (amWp_dec rfl dX0_ahead_41 rfl).trans rfl
theorem wX0_ahead_42 {ret F n h} {v0 v1 v2 a} : eX0_ahead ret F (n + 1) 42 [v0, v1, v2] (.ref a :: []) h 0 0 = (h.1 a = (0, 0) ∧ eX0_ahead ret F n 45 [v0, v1, v2] (va_rf (h.2.2.2.1 a 0) :: []) h 0 0) := (amWp_dec rfl dX0_ahead_42 rfl).trans (amS4 (Nat.le_of_ble_eq_true rfl) (Nat.le_of_ble_eq_true rfl) (Nat.le_of_ble_eq_true rfl) (Nat.le_of_ble_eq_true rfl))
theorem wX0_ahead_45 {ret F n h} {v0 v2 st x} : eX0_ahead ret F (n + 1) 45 [v0, .int x, v2] (st) h 0 0 = (eX0_ahead ret F n 46 [v0, .int x, v2] (.int x :: st) h 0 0) := (amWp_dec rfl dX0_ahead_45 rfl).trans rfl
theorem wX0_ahead_46 {ret F n h} {v0 v1 st x} : eX0_ahead ret F (n + 1) 46 [v0, v1, .int x] (st) h 0 0 = (eX0_ahead ret F n 47 [v0, v1, .int x] (.int x :: st) h 0 0) := (amWp_dec rfl dX0_ahead_46 rfl).trans rfl
theorem wX0_ahead_47 {ret F n h} {v0 v1 v2 x2 x1 x0} : eX0_ahead ret F (n + 1) 47 [v0, v1, v2] (.int x2 :: .int x1 :: .ref x0 :: []) h 0 0 = (h.1 x0 = (0, 1) ∧ tX1_mayBeAhead [.ref x0, .int x1, .int x2] h (fun v h => eX0_ahead ret F n 50 [v0, v1, v2] (v.toList ++ ([])) h 0 0)) := (amWp_dec rfl dX0_ahead_47 rfl).trans (amS4 (Nat.le_of_ble_eq_true rfl) (Nat.le_of_ble_eq_true rfl) (Nat.le_of_ble_eq_true rfl) (Nat.le_of_ble_eq_true rfl))
theorem wX0_ahead_50 {ret F n h} {v0 v1 v2 st x} : eX0_ahead ret F (n + 1) 50 [v0, v1, v2] (.int x :: st) h 0 0 = ((¬ x = 0 → eX0_ahead ret F n 56 [v0, v1, v2] (st) h 0 0) ∧ (x = 0 → eX0_ahead ret F n 53 [v0, v1, v2] (st) h 0 0)) := (amWp_dec rfl dX0_ahead_50 rfl).trans rfl
theorem wX0_ahead_53 {ret F n h} {v0 v1 v2 st} : eX0_ahead ret F (n + 1) 53 [v0, v1, v2] (st) h 0 0 = (eX0_ahead ret F n 55 [v0, v1, v2] (.int (-2) :: st) h 0 0) := (amWp_dec rfl dX0_ahead_53 rfl).trans rfl
theorem wX0_ahead_55 {ret F n h} {v0 v1 v2 x} : eX0_ahead ret F (n + 1) 55 [v0, v1, v2] ([.int x]) h 0 0 = (ret (some (.int x)) h 0 0) := (amWp_dec rfl dX0_ahead_55 rfl).trans (amTrue ⟨_, rfl, rfl⟩)
theorem wX0_ahead_56 {ret F n ls st h k z} : eX0_ahead ret F (n + 1) 56 ls st h k z = F 56 ls st h k z := amWp_cut rfl
theorem uX0_ahead_56 {ret F n h} {v0 v1 v2 st} : sX0_ahead ret F n 56 [v0, v1, v2] (st) h 0 0 = (amIsR v0 ∧ eX0_ahead ret F n 57 [v0, v1, v2] (v0 :: st) h 0 0) := (amWs_dec dX0_ahead_56 rfl).trans rfl
theorem wX0_ahead_57 {ret F n h} {v0 v1 v2 x0} : eX0_ahead ret F (n + 1) 57 [v0, v1, v2] (.ref x0 :: []) h 0 0 = (h.1 x0 = (0, 0) ∧ tX0_note [.ref x0] h (fun v h => eX0_ahead ret F n 60 [v0, v1, v2] (v.toList ++ ([])) h 0 0)) := (amWp_dec rfl dX0_ahead_57 rfl).trans (amS4 (Nat.le_of_ble_eq_true rfl) (Nat.le_of_ble_eq_true rfl) (Nat.le_of_ble_eq_true rfl) (Nat.le_of_ble_eq_true rfl))
theorem wX0_ahead_60 {ret F n ls st h k z} : eX0_ahead ret F (n + 1) 60 ls st h k z = F 60 ls st h k z := amWp_cut rfl
theorem uX0_ahead_60 {ret F n h} {v0 v1 v2 st} : sX0_ahead ret F n 60 [v0, v1, v2] (st) h 0 0 = (amIsR v0 ∧ eX0_ahead ret F n 61 [v0, v1, v2] (v0 :: st) h 0 0) := (amWs_dec dX0_ahead_60 rfl).trans rfl
theorem wX0_ahead_61 {ret F n h} {v0 v1 v2 a} : eX0_ahead ret F (n + 1) 61 [v0, v1, v2] (.ref a :: []) h 0 0 = (h.1 a = (0, 0) ∧ eX0_ahead ret F n 64 [v0, v1, v2] (va_rf (h.2.2.2.1 a 0) :: []) h 0 0) := (amWp_dec rfl dX0_ahead_61 rfl).trans (amS4 (Nat.le_of_ble_eq_true rfl) (Nat.le_of_ble_eq_true rfl) (Nat.le_of_ble_eq_true rfl) (Nat.le_of_ble_eq_true rfl))
theorem wX0_ahead_64 {ret F n h} {v0 v1 v2 a} : eX0_ahead ret F (n + 1) 64 [v0, v1, v2] (.ref a :: []) h 0 0 = (h.1 a = (0, 1) ∧ eX0_ahead ret F n 67 [v0, v1, v2] (va_rf (h.2.2.2.1 a 1) :: []) h 0 0) := (amWp_dec rfl dX0_ahead_64 rfl).trans (amS4 (Nat.le_of_ble_eq_true rfl) (Nat.le_of_ble_eq_true rfl) (Nat.le_of_ble_eq_true rfl) (Nat.le_of_ble_eq_true rfl))
theorem wX0_ahead_67 {ret F n h} {v0 v2 st x} : eX0_ahead ret F (n + 1) 67 [v0, .int x, v2] (st) h 0 0 = (eX0_ahead ret F n 68 [v0, .int x, v2] (.int x :: st) h 0 0) := (amWp_dec rfl dX0_ahead_67 rfl).trans rfl
theorem wX0_ahead_68 {ret F n h} {v0 v1 v2 st x a} : eX0_ahead ret F (n + 1) 68 [v0, v1, v2] (.int x :: .ref a :: st) h 0 0 = (eX0_ahead ret F n 69 [v0, v1, v2] (.int x :: .ref a :: .int x :: .ref a :: st) h 0 0) := (amWp_dec rfl dX0_ahead_68 rfl).trans (amS2 rfl rfl)
theorem wX0_ahead_69 {ret F n h} {v0 v1 v2 st x a} : eX0_ahead ret F (n + 1) 69 [v0, v1, v2] (.int x :: .ref a :: st) h 0 0 = ((h.1 a).1 = 2 ∧ vp_in x (h.1 a).2 ∧ eX0_ahead ret F n 70 [v0, v1, v2] (.int (h.2.1 a x.toNatClampNeg) :: st) h 0 0) := (amWp_dec rfl dX0_ahead_69 rfl).trans rfl
theorem wX0_ahead_70 {ret F n h} {v0 v1 v2 st} : eX0_ahead ret F (n + 1) 70 [v0, v1, v2] (st) h 0 0 = (eX0_ahead ret F n 71 [v0, v1, v2] (.int (nI 1) :: st) h 0 0) := (amWp_dec rfl dX0_ahead_70 rfl).trans rfl
theorem wX0_ahead_71 {ret F n h} {v0 v1 st x} : eX0_ahead ret F (n + 1) 71 [v0, v1, .int x] (st) h 0 0 = (eX0_ahead ret F n 72 [v0, v1, .int x] (.int x :: st) h 0 0) := (amWp_dec rfl dX0_ahead_71 rfl).trans rfl
theorem wX0_ahead_72 {ret F n h} {v0 v1 v2 st y x} : eX0_ahead ret F (n + 1) 72 [v0, v1, v2] (.int y :: .int x :: st) h 0 0 = (eX0_ahead ret F n 73 [v0, v1, v2] (.int (x <<< (y &&& 31)) :: st) h 0 0) := (amWp_dec rfl dX0_ahead_72 rfl).trans rfl
theorem wX0_ahead_73 {ret F n h} {v0 v1 v2 st y x} : eX0_ahead ret F (n + 1) 73 [v0, v1, v2] (.int y :: .int x :: st) h 0 0 = (eX0_ahead ret F n 74 [v0, v1, v2] (.int (x ^^^ y) :: st) h 0 0) := (amWp_dec rfl dX0_ahead_73 rfl).trans rfl
theorem wX0_ahead_74 {ret F n h} {v0 v1 v2 st x} : eX0_ahead ret F (n + 1) 74 [v0, v1, v2] (.int x :: st) h 0 0 = (eX0_ahead ret F n 75 [v0, v1, v2] (.int x.toInt8.toInt32 :: st) h 0 0) := (amWp_dec rfl dX0_ahead_74 rfl).trans rfl
theorem wX0_ahead_75 {ret F n h} {v0 v1 v2 st y x a} : eX0_ahead ret F (n + 1) 75 [v0, v1, v2] (.int y :: .int x :: .ref a :: st) h 0 0 = ((h.1 a).1 = 2 ∧ vp_in x (h.1 a).2 ∧ amN0 ≤ a ∧ eX0_ahead ret F n 76 [v0, v1, v2] (st) (amSI h (amU h.2.1 a x.toNatClampNeg (vp_nar .byte y))) 0 0) := (amWp_dec rfl dX0_ahead_75 rfl).trans rfl
theorem wX0_ahead_76 {ret F n h} {v0 v1 v2 st} : eX0_ahead ret F (n + 1) 76 [v0, v1, v2] (st) h 0 0 = (amIsR v0 ∧ eX0_ahead ret F n 77 [v0, v1, v2] (v0 :: st) h 0 0) := (amWp_dec rfl dX0_ahead_76 rfl).trans rfl
theorem wX0_ahead_77 {ret F n h} {v0 v1 v2 a} : eX0_ahead ret F (n + 1) 77 [v0, v1, v2] (.ref a :: []) h 0 0 = (h.1 a = (0, 0) ∧ eX0_ahead ret F n 80 [v0, v1, v2] (va_rf (h.2.2.2.1 a 0) :: []) h 0 0) := (amWp_dec rfl dX0_ahead_77 rfl).trans (amS4 (Nat.le_of_ble_eq_true rfl) (Nat.le_of_ble_eq_true rfl) (Nat.le_of_ble_eq_true rfl) (Nat.le_of_ble_eq_true rfl))
theorem wX0_ahead_80 {ret F n h} {v0 v1 v2 a} : eX0_ahead ret F (n + 1) 80 [v0, v1, v2] (.ref a :: []) h 0 0 = (h.1 a = (0, 1) ∧ eX0_ahead ret F n 83 [v0, v1, v2] (va_rf (h.2.2.2.1 a 1) :: []) h 0 0) := (amWp_dec rfl dX0_ahead_80 rfl).trans (amS4 (Nat.le_of_ble_eq_true rfl) (Nat.le_of_ble_eq_true rfl) (Nat.le_of_ble_eq_true rfl) (Nat.le_of_ble_eq_true rfl))
theorem wX0_ahead_83 {ret F n h} {v0 v2 st x} : eX0_ahead ret F (n + 1) 83 [v0, .int x, v2] (st) h 0 0 = (eX0_ahead ret F n 84 [v0, .int x, v2] (.int x :: st) h 0 0) := (amWp_dec rfl dX0_ahead_83 rfl).trans rfl
theorem wX0_ahead_84 {ret F n h} {v0 v1 v2 st x a} : eX0_ahead ret F (n + 1) 84 [v0, v1, v2] (.int x :: .ref a :: st) h 0 0 = ((h.1 a).1 = 2 ∧ vp_in x (h.1 a).2 ∧ eX0_ahead ret F n 85 [v0, v1, v2] (.int (h.2.1 a x.toNatClampNeg) :: st) h 0 0) := (amWp_dec rfl dX0_ahead_84 rfl).trans rfl
theorem wX0_ahead_85 {ret F n h} {v0 v1 st x} : eX0_ahead ret F (n + 1) 85 [v0, v1, .int x] (st) h 0 0 = (eX0_ahead ret F n 86 [v0, v1, .int x] (.int x :: st) h 0 0) := (amWp_dec rfl dX0_ahead_85 rfl).trans rfl
theorem wX0_ahead_86 {ret F n h} {v0 v1 v2 x1 x0} : eX0_ahead ret F (n + 1) 86 [v0, v1, v2] (.int x1 :: .int x0 :: []) h 0 0 = (tX0_has [.int x0, .int x1] h (fun v h => eX0_ahead ret F n 89 [v0, v1, v2] (v.toList ++ ([])) h 0 0)) := (amWp_dec rfl dX0_ahead_86 rfl).trans (amS4 (Nat.le_of_ble_eq_true rfl) (Nat.le_of_ble_eq_true rfl) (Nat.le_of_ble_eq_true rfl) (Nat.le_of_ble_eq_true rfl))
theorem wX0_ahead_89 {ret F n h} {v0 v1 v2 st x} : eX0_ahead ret F (n + 1) 89 [v0, v1, v2] (.int x :: st) h 0 0 = ((x = 0 → eX0_ahead ret F n 96 [v0, v1, v2] (st) h 0 0) ∧ (¬ x = 0 → eX0_ahead ret F n 92 [v0, v1, v2] (st) h 0 0)) := (amWp_dec rfl dX0_ahead_89 rfl).trans rfl
theorem wX0_ahead_92 {ret F n h} {v0 v1 v2 st} : eX0_ahead ret F (n + 1) 92 [v0, v1, v2] (st) h 0 0 = (eX0_ahead ret F n 93 [v0, v1, v2] (.int (nI 1) :: st) h 0 0) := (amWp_dec rfl dX0_ahead_92 rfl).trans rfl
theorem wX0_ahead_93 {ret F n h} {v0 v1 v2 st} : eX0_ahead ret F (n + 1) 93 [v0, v1, v2] (st) h 0 0 = (eX0_ahead ret F n 97 [v0, v1, v2] (st) h 0 0) := (amWp_dec rfl dX0_ahead_93 rfl).trans rfl
theorem wX0_ahead_96 {ret F n h} {v0 v1 v2 st} : eX0_ahead ret F (n + 1) 96 [v0, v1, v2] (st) h 0 0 = (eX0_ahead ret F n 97 [v0, v1, v2] (.int (nI 0) :: st) h 0 0) := (amWp_dec rfl dX0_ahead_96 rfl).trans rfl
theorem wX0_ahead_97 {ret F n h} {v0 v1 v2 x} : eX0_ahead ret F (n + 1) 97 [v0, v1, v2] ([.int x]) h 0 0 = (ret (some (.int x)) h 0 0) := (amWp_dec rfl dX0_ahead_97 rfl).trans (amTrue ⟨_, rfl, rfl⟩)
theorem evX0_ahead (l : Launch) (G : amG) : ∀ pc S i sz, amLk rX0_ahead pc = some S → decode cX0_ahead pc = .ok (i, sz) → amSiteP pc G l yX0_ahead.cls yX0_ahead.name yX0_ahead.desc (amRm 4 0 0) i sz S.1 S.2.1 S.2.2.1 S.2.2.2 := amLk_ok (by
  refine List.forall_mem_cons.mpr ⟨⟨_, _, dX0_ahead_3, amSite.P (amSiteV (C := RX0) (metX0_isBook l G) rfl (by decide) (by decide) (lw_V q549 q551 qs20 q86 q552) ⟨_, rfl, rfl⟩ ⟨rfl, by decide +kernel, by decide +kernel, by decide +kernel⟩)⟩, ?_⟩
  refine List.forall_mem_cons.mpr ⟨⟨_, _, dX0_ahead_12, amSite.P (amSiteV (C := RX0) (metX0_isBook l G) rfl (by decide) (by decide) (lw_V q549 q551 qs20 q86 q552) ⟨_, rfl, rfl⟩ ⟨rfl, by decide +kernel, by decide +kernel, by decide +kernel⟩)⟩, ?_⟩
  refine List.forall_mem_cons.mpr ⟨⟨_, _, dX0_ahead_26, amSite.P (amSiteGet ⟨_, rfl, by decide, Or.inl q301⟩)⟩, ?_⟩
  refine List.forall_mem_cons.mpr ⟨⟨_, _, dX0_ahead_29, amSite.P (amSiteGet ⟨_, rfl, by decide, Or.inr ⟨"ReadingStages", List.mem_of_getElem? (i := 3) rfl⟩⟩)⟩, ?_⟩
  refine List.forall_mem_cons.mpr ⟨⟨_, _, dX0_ahead_35, amSite.P (amSiteS (metX0_has l G) rfl (by decide) (by decide) (lw_S q435 q436 q86 q437) ⟨by decide +kernel, by decide +kernel, by decide +kernel⟩)⟩, ?_⟩
  refine List.forall_mem_cons.mpr ⟨⟨_, _, dX0_ahead_42, amSite.P (amSiteGet ⟨_, rfl, by decide, Or.inl q301⟩)⟩, ?_⟩
  refine List.forall_mem_cons.mpr ⟨⟨_, _, dX0_ahead_47, amSite.P (amSiteV (C := RX1) (metX1_mayBeAhead l G) rfl (by decide) (by decide) (lw_V q918 q919 q920 q87 q921) ⟨_, rfl, rfl⟩ ⟨rfl, by decide +kernel, by decide +kernel, by decide +kernel⟩)⟩, ?_⟩
  refine List.forall_mem_cons.mpr ⟨⟨_, _, dX0_ahead_57, amSite.P (amSiteV (C := RX0) (metX0_note l G) rfl (by decide) (by decide) (lw_V q881 q883 qs24 q86 q884) ⟨_, rfl, rfl⟩ ⟨rfl, by decide +kernel, by decide +kernel, by decide +kernel⟩)⟩, ?_⟩
  refine List.forall_mem_cons.mpr ⟨⟨_, _, dX0_ahead_61, amSite.P (amSiteGet ⟨_, rfl, by decide, Or.inl q301⟩)⟩, ?_⟩
  refine List.forall_mem_cons.mpr ⟨⟨_, _, dX0_ahead_64, amSite.P (amSiteGet ⟨_, rfl, by decide, Or.inr ⟨"ReadingStages", List.mem_of_getElem? (i := 3) rfl⟩⟩)⟩, ?_⟩
  refine List.forall_mem_cons.mpr ⟨⟨_, _, dX0_ahead_77, amSite.P (amSiteGet ⟨_, rfl, by decide, Or.inl q301⟩)⟩, ?_⟩
  refine List.forall_mem_cons.mpr ⟨⟨_, _, dX0_ahead_80, amSite.P (amSiteGet ⟨_, rfl, by decide, Or.inr ⟨"ReadingStages", List.mem_of_getElem? (i := 3) rfl⟩⟩)⟩, ?_⟩
  refine List.forall_mem_cons.mpr ⟨⟨_, _, dX0_ahead_86, amSite.P (amSiteS (metX0_has l G) rfl (by decide) (by decide) (lw_S q435 q436 q86 q437) ⟨by decide +kernel, by decide +kernel, by decide +kernel⟩)⟩, ?_⟩
  exact fun _ h => absurd h List.not_mem_nil)
theorem goX0_ahead {ret F} (hF : amCld cX0_ahead kX0_ahead (amLk rX0_ahead) (some .int) 0 0 ret F) (n : Nat) {pc ls st h k z} (q : sX0_ahead ret F n pc ls st h k z) : F pc ls st h k z := hF.1 n pc ls st h k z q
theorem metX0_ahead (l : Launch) (G : amG) : amMet l G yX0_ahead (ws_ yX0_ahead cX0_ahead 3 (some .int)) 4 0 0 tX0_ahead := by
  refine amMet_of (cut := kX0_ahead) (by decide +kernel) (evX0_ahead l G) ?_
  intro as h K hT
  match as, hT with
  | [.ref a, .int x, .int y], ⟨X, e1, w, hK⟩ =>
  refine ⟨Nat.le_of_ble_eq_true rfl, fun F hF => ?_⟩
  show F 0 [.ref a, .int x, .int y] [] h 0 0
  obtain ⟨a, rfl⟩ : ∃ i : Nat, i = a := ⟨_, rfl⟩
  subst e1
  have hR := w.1.1
  have hS := w.1.2.1
  have hO := w.1.2.2.1
  have n7 := hS.n7
  have hm := hS.many
  have key := hK
  have bad : ¬ ((x.toNatClampNeg < X.1.ord.length ∧ x = nI x.toNatClampNeg) ∧ (y.toNatClampNeg < X.1.ord.length ∧ y = nI y.toNatClampNeg) ∧ x ≠ y) → amRet 0 0 K (some (.int (-1))) h 0 0 := fun e => by
    rw [aheadR, if_pos e] at hK
    exact amRet.of (by decide) (by decide) (hK h (rsFr.rf h) w)
  have good : (x.toNatClampNeg < X.1.ord.length ∧ x = nI x.toNatClampNeg) → (y.toNatClampNeg < X.1.ord.length ∧ y = nI y.toNatClampNeg) → x ≠ y → F 25 [.ref 24, .int x, .int y] [] h 0 0 := by
    intro q1 q2 q3
    have q4 : ¬ ¬ ((x.toNatClampNeg < X.1.ord.length ∧ x = nI x.toNatClampNeg) ∧ (y.toNatClampNeg < X.1.ord.length ∧ y = nI y.toNatClampNeg) ∧ x ≠ y) := fun z => z ⟨q1, q2, q3⟩
    rw [aheadR, if_neg q4] at key
    obtain ⟨i, hi, rfl⟩ := (isBk2 n7).mpr q1
    obtain ⟨j, hj, rfl⟩ := (isBk2 n7).mpr q2
    rw [amCl_nI (by omega), amCl_nI (by omega)] at key
    have ai := hS.ahead i hi
    have al := hS.al hi
    have fin : ((X.1.ahead.getD i 0).testBit j = true ∨ X.1.mayBe i j = true) → F 56 [.ref 24, .int (nI i), .int (nI j)] [] h 0 0 := by
      intro ok
      have nq : ¬ ((X.1.ahead.getD i 0).testBit j = false ∧ X.1.mayBe i j = false) := by
        rintro ⟨z1, z2⟩
        rcases ok with z | z
        · rw [z1] at z; cases z
        · rw [z2] at z; cases z
      rw [if_neg nq] at key
      refine goX0_ahead hF 60 ?_
      simp (disch := omega) only [wX0_ahead_0, uX0_ahead_0, wX0_ahead_1, wX0_ahead_2, wX0_ahead_3, wX0_ahead_6, wX0_ahead_9, wX0_ahead_10, wX0_ahead_11, wX0_ahead_12, wX0_ahead_15, wX0_ahead_18, wX0_ahead_19, wX0_ahead_20, wX0_ahead_23, wX0_ahead_24, wX0_ahead_25, uX0_ahead_25, wX0_ahead_26, wX0_ahead_29, wX0_ahead_32, wX0_ahead_33, wX0_ahead_34, wX0_ahead_35, wX0_ahead_38, wX0_ahead_41, wX0_ahead_42, wX0_ahead_45, wX0_ahead_46, wX0_ahead_47, wX0_ahead_50, wX0_ahead_53, wX0_ahead_55, wX0_ahead_56, uX0_ahead_56, wX0_ahead_57, wX0_ahead_60, uX0_ahead_60, wX0_ahead_61, wX0_ahead_64, wX0_ahead_67, wX0_ahead_68, wX0_ahead_69, wX0_ahead_70, wX0_ahead_71, wX0_ahead_72, wX0_ahead_73, wX0_ahead_74, wX0_ahead_75, wX0_ahead_76, wX0_ahead_77, wX0_ahead_80, wX0_ahead_83, wX0_ahead_84, wX0_ahead_85, wX0_ahead_86, wX0_ahead_89, wX0_ahead_92, wX0_ahead_93, wX0_ahead_96, wX0_ahead_97, amSI_1, amSI_2, amSI_3, amSI_s, amU_at, amIsR_ref, amIsR_null, amIsR_rf, amRf_some, amRf_none, amClr_int, amClr_ref, amClr_null, amClr_long, amClr_ra, amClr_rf, amFit_int, amFit_oref, amFit_aref, amFit_onull, amFit_anull, amOptSome, amOptNone, List.cons_append, List.nil_append, true_and, and_true, true_implies, not_true_eq_false, not_false_eq_true, false_implies, and_self, Nat.add_zero, Nat.zero_add, ne_eq, Prod.mk.injEq, amC01_0, amC01_1, amC01_nb, amNb0, amNb1, amTcpI_d, Nat.reduceLeDiff, Nat.reduceAdd, Nat.reduceSub, Nat.reduceEqDiff, Nat.le_refl, amN0le, hR.s, hR.r]
      refine note_of w (fun h1 f1 hR1 _ hS1 hU1 => ?_)
      have hR := hR1
      obtain ⟨g1, g2⟩ := w.act f1 hU1 rfl (hsFr.u (by decide) (by decide)) (hS1.flip (b := j) hi (by omega)) (hO.flip hi hj ok)
      have key := key _ g1 g2
      have ai1 := hS1.ahead i hi
      have xl : X.1.ahead.getD i 0 ^^^ 2 ^ j < 128 := Nat.xor_lt_two_pow (n := 7) al (p2_lt (by omega))
      have tb : (X.1.ahead.getD i 0 ^^^ 2 ^ j).testBit j = !(X.1.ahead.getD i 0).testBit j := by rw [Nat.testBit_xor, Nat.testBit_two_pow_self]; simp
      refine goX0_ahead hF 60 ?_
      simp (disch := omega) only [wX0_ahead_0, uX0_ahead_0, wX0_ahead_1, wX0_ahead_2, wX0_ahead_3, wX0_ahead_6, wX0_ahead_9, wX0_ahead_10, wX0_ahead_11, wX0_ahead_12, wX0_ahead_15, wX0_ahead_18, wX0_ahead_19, wX0_ahead_20, wX0_ahead_23, wX0_ahead_24, wX0_ahead_25, uX0_ahead_25, wX0_ahead_26, wX0_ahead_29, wX0_ahead_32, wX0_ahead_33, wX0_ahead_34, wX0_ahead_35, wX0_ahead_38, wX0_ahead_41, wX0_ahead_42, wX0_ahead_45, wX0_ahead_46, wX0_ahead_47, wX0_ahead_50, wX0_ahead_53, wX0_ahead_55, wX0_ahead_56, uX0_ahead_56, wX0_ahead_57, wX0_ahead_60, uX0_ahead_60, wX0_ahead_61, wX0_ahead_64, wX0_ahead_67, wX0_ahead_68, wX0_ahead_69, wX0_ahead_70, wX0_ahead_71, wX0_ahead_72, wX0_ahead_73, wX0_ahead_74, wX0_ahead_75, wX0_ahead_76, wX0_ahead_77, wX0_ahead_80, wX0_ahead_83, wX0_ahead_84, wX0_ahead_85, wX0_ahead_86, wX0_ahead_89, wX0_ahead_92, wX0_ahead_93, wX0_ahead_96, wX0_ahead_97, amSI_1, amSI_2, amSI_3, amSI_s, amU_at, amIsR_ref, amIsR_null, amIsR_rf, amRf_some, amRf_none, amClr_int, amClr_ref, amClr_null, amClr_long, amClr_ra, amClr_rf, amFit_int, amFit_oref, amFit_aref, amFit_onull, amFit_anull, amOptSome, amOptNone, List.cons_append, List.nil_append, true_and, and_true, true_implies, not_true_eq_false, not_false_eq_true, false_implies, and_self, Nat.add_zero, Nat.zero_add, ne_eq, Prod.mk.injEq, amC01_0, amC01_1, amC01_nb, amNb0, amNb1, amTcpI_d, Nat.reduceLeDiff, Nat.reduceAdd, Nat.reduceSub, Nat.reduceEqDiff, Nat.le_refl, amN0le, hR.s, hR.r, amVI, amCl_nI, ai1, nx_p2, nx_xor, amByte, amByteN, tX0_has_d, nx_hasI, tb]
      refine ⟨fun z => ?_, fun z => ?_⟩
      · have z2 : (X.1.ahead.getD i 0).testBit j = true := by simpa using z
        rw [if_pos z2] at key
        exact amRet.of (by decide) (by decide) key
      · have z2 : ¬ (X.1.ahead.getD i 0).testBit j = true := by simpa using z
        rw [if_neg z2] at key
        exact amRet.of (by decide) (by decide) key
    refine goX0_ahead hF 60 ?_
    simp (disch := omega) only [wX0_ahead_0, uX0_ahead_0, wX0_ahead_1, wX0_ahead_2, wX0_ahead_3, wX0_ahead_6, wX0_ahead_9, wX0_ahead_10, wX0_ahead_11, wX0_ahead_12, wX0_ahead_15, wX0_ahead_18, wX0_ahead_19, wX0_ahead_20, wX0_ahead_23, wX0_ahead_24, wX0_ahead_25, uX0_ahead_25, wX0_ahead_26, wX0_ahead_29, wX0_ahead_32, wX0_ahead_33, wX0_ahead_34, wX0_ahead_35, wX0_ahead_38, wX0_ahead_41, wX0_ahead_42, wX0_ahead_45, wX0_ahead_46, wX0_ahead_47, wX0_ahead_50, wX0_ahead_53, wX0_ahead_55, wX0_ahead_56, uX0_ahead_56, wX0_ahead_57, wX0_ahead_60, uX0_ahead_60, wX0_ahead_61, wX0_ahead_64, wX0_ahead_67, wX0_ahead_68, wX0_ahead_69, wX0_ahead_70, wX0_ahead_71, wX0_ahead_72, wX0_ahead_73, wX0_ahead_74, wX0_ahead_75, wX0_ahead_76, wX0_ahead_77, wX0_ahead_80, wX0_ahead_83, wX0_ahead_84, wX0_ahead_85, wX0_ahead_86, wX0_ahead_89, wX0_ahead_92, wX0_ahead_93, wX0_ahead_96, wX0_ahead_97, amSI_1, amSI_2, amSI_3, amSI_s, amU_at, amIsR_ref, amIsR_null, amIsR_rf, amRf_some, amRf_none, amClr_int, amClr_ref, amClr_null, amClr_long, amClr_ra, amClr_rf, amFit_int, amFit_oref, amFit_aref, amFit_onull, amFit_anull, amOptSome, amOptNone, List.cons_append, List.nil_append, true_and, and_true, true_implies, not_true_eq_false, not_false_eq_true, false_implies, and_self, Nat.add_zero, Nat.zero_add, ne_eq, Prod.mk.injEq, amC01_0, amC01_1, amC01_nb, amNb0, amNb1, amTcpI_d, Nat.reduceLeDiff, Nat.reduceAdd, Nat.reduceSub, Nat.reduceEqDiff, Nat.le_refl, amN0le, hR.s, hR.r, amVI, amCl_nI, ai, tX0_has_d, nx_hasI, tX1_mayBeAhead_d]
    refine ⟨fun z => fin (Or.inl (Classical.not_not.mp z)), fun z => ⟨X.1, i, j, rfl, rfl, hR.now, hS, hi, hj, ?_⟩⟩
    refine ⟨fun z3 => fin (Or.inr (Classical.not_not.mp z3)), fun z3 => ?_⟩
    rw [if_pos ⟨by simpa using z, by simpa using z3⟩] at key
    exact amRet.of (by decide) (by decide) (key h (rsFr.rf h) w)
  refine goX0_ahead hF 60 ?_
  simp (disch := omega) only [wX0_ahead_0, uX0_ahead_0, wX0_ahead_1, wX0_ahead_2, wX0_ahead_3, wX0_ahead_6, wX0_ahead_9, wX0_ahead_10, wX0_ahead_11, wX0_ahead_12, wX0_ahead_15, wX0_ahead_18, wX0_ahead_19, wX0_ahead_20, wX0_ahead_23, wX0_ahead_24, wX0_ahead_25, uX0_ahead_25, wX0_ahead_26, wX0_ahead_29, wX0_ahead_32, wX0_ahead_33, wX0_ahead_34, wX0_ahead_35, wX0_ahead_38, wX0_ahead_41, wX0_ahead_42, wX0_ahead_45, wX0_ahead_46, wX0_ahead_47, wX0_ahead_50, wX0_ahead_53, wX0_ahead_55, wX0_ahead_56, uX0_ahead_56, wX0_ahead_57, wX0_ahead_60, uX0_ahead_60, wX0_ahead_61, wX0_ahead_64, wX0_ahead_67, wX0_ahead_68, wX0_ahead_69, wX0_ahead_70, wX0_ahead_71, wX0_ahead_72, wX0_ahead_73, wX0_ahead_74, wX0_ahead_75, wX0_ahead_76, wX0_ahead_77, wX0_ahead_80, wX0_ahead_83, wX0_ahead_84, wX0_ahead_85, wX0_ahead_86, wX0_ahead_89, wX0_ahead_92, wX0_ahead_93, wX0_ahead_96, wX0_ahead_97, amSI_1, amSI_2, amSI_3, amSI_s, amU_at, amIsR_ref, amIsR_null, amIsR_rf, amRf_some, amRf_none, amClr_int, amClr_ref, amClr_null, amClr_long, amClr_ra, amClr_rf, amFit_int, amFit_oref, amFit_aref, amFit_onull, amFit_anull, amOptSome, amOptNone, List.cons_append, List.nil_append, true_and, and_true, true_implies, not_true_eq_false, not_false_eq_true, false_implies, and_self, Nat.add_zero, Nat.zero_add, ne_eq, Prod.mk.injEq, amC01_0, amC01_1, amC01_nb, amNb0, amNb1, amTcpI_d, Nat.reduceLeDiff, Nat.reduceAdd, Nat.reduceSub, Nat.reduceEqDiff, Nat.le_refl, amN0le, hR.s, hR.r, tX0_isBook_d, hm, isBk n7, hR]
  refine ⟨fun z => bad (fun q => z ((isBk2 n7).mpr q.1)), fun z1 => ⟨fun z => bad (fun q => z ((isBk2 n7).mpr q.2.1)), fun z2 => ⟨fun z3 => good ((isBk2 n7).mp (Classical.not_not.mp z1)) ((isBk2 n7).mp (Classical.not_not.mp z2)) z3, fun z3 => bad (fun q => q.2.2 z3)⟩⟩⟩
theorem tX0_ahead_d {a : Nat} {x y : Int32} {h : amH} {K : Option Value → amH → Prop} : tX0_ahead [.ref a, .int x, .int y] h K = ∃ X : XS, a = (24 : Nat) ∧ RsW h X ∧ ∀ h', rsFr h h' → RsW h' (aheadR X x y).1 → K (some (.int (aheadR X x y).2)) h' := rfl
def tX0_shift : amT := fun as h K => match as with
  | [.ref a, .int p0, .int q0] => ∃ (S : HS) (p q : Nat), a = (24 : Nat) ∧ p0 = nI p ∧ q0 = nI q ∧ rsAt h ∧ HsIs h.2.1 25 S ∧ p < S.ord.length ∧ q < S.ord.length ∧ ∀ m', HsIs m' 25 (S.shift p q) → hsFr h.2.1 m' 25 → K (some (.int (nI (S.ord.getD p 0)))) (amSI h m')
  | _ => False
theorem bdFr.hs {m m' : Nat → Nat → Int32} (f : bdFr m m' 28) : hsFr m m' 25 := fun i hi => f i (by omega)
theorem HsIs.setO {m m' : Nat → Nat → Int32} {S : HS} (q : HsIs m 25 S) (f : bdFr m m' 28) {l : List Nat} (hl : l.length = S.ord.length) (hb : bdIs m' 28 l) : HsIs m' 25 (S.setO l) := by
  have e : (S.setO l).ord.length = S.ord.length := hl
  have f25 := f 25 (by omega)
  have f26 := f 26 (by omega)
  have f27 := f 27 (by omega)
  refine HsIs.mk hb (q.ls.trans e.symm) (q.la.trans e.symm) (fun k hk => ?_) (fun k hk => ?_) ?_ ?_ ?_ ?_ ?_ q.ba
  · rw [e] at hk
    show m' 26 k = _
    rw [f26]; exact q.sets k hk
  · rw [e] at hk
    show m' 27 k = _
    rw [f27]; exact q.ahead k hk
  · rw [f25]; exact q.prior
  · rw [f25]; exact q.span
  · rw [f25]; exact q.bound
  · rw [f25]; exact q.rule
  · rw [f25]; exact q.draw
/-! ReadingStages.shift(II)I -/
def kX0_shift : Nat → Bool := fun pc => pc == 23 || pc == 35
def rX0_shift : List (Nat × amS) := [(1, 1, 0, 0, amTget 0 0), (4, 1, 0, 0, amTget 1 2), (8, 2, 0, 0, (amRecv 2 tX2_at)), (13, 1, 0, 0, amTget 0 0), (16, 1, 0, 0, amTget 1 2), (20, 2, 0, 0, (amRecv 2 tX2_take)), (24, 1, 0, 0, amTget 0 0), (27, 1, 0, 0, amTget 1 2), (32, 3, 0, 0, (amRecv 2 tX2_put))]
def eX0_shift (ret : Option Value → amH → Nat → Nat → Prop) (F : amX) : Nat → amX := amWp cX0_shift kX0_shift (amLk rX0_shift) (some .int) 0 0 ret F
def sX0_shift (ret : Option Value → amH → Nat → Nat → Prop) (F : amX) : Nat → amX := amWs cX0_shift kX0_shift (amLk rX0_shift) (some .int) 0 0 ret F
theorem wX0_shift_0 {ret F n h} {v0 v1 v2 v3 st} : eX0_shift ret F (n + 1) 0 [v0, v1, v2, v3] (st) h 0 0 = (amIsR v0 ∧ eX0_shift ret F n 1 [v0, v1, v2, v3] (v0 :: st) h 0 0) := (amWp_dec rfl dX0_shift_0 rfl).trans rfl
theorem uX0_shift_0 {ret F n h} {v0 v1 v2 v3 st} : sX0_shift ret F n 0 [v0, v1, v2, v3] (st) h 0 0 = (amIsR v0 ∧ eX0_shift ret F n 1 [v0, v1, v2, v3] (v0 :: st) h 0 0) := (amWs_dec dX0_shift_0 rfl).trans rfl
theorem wX0_shift_1 {ret F n h} {v0 v1 v2 v3 a} : eX0_shift ret F (n + 1) 1 [v0, v1, v2, v3] (.ref a :: []) h 0 0 = (h.1 a = (0, 0) ∧ eX0_shift ret F n 4 [v0, v1, v2, v3] (va_rf (h.2.2.2.1 a 0) :: []) h 0 0) := (amWp_dec rfl dX0_shift_1 rfl).trans (amS4 (Nat.le_of_ble_eq_true rfl) (Nat.le_of_ble_eq_true rfl) (Nat.le_of_ble_eq_true rfl) (Nat.le_of_ble_eq_true rfl))
theorem wX0_shift_4 {ret F n h} {v0 v1 v2 v3 a} : eX0_shift ret F (n + 1) 4 [v0, v1, v2, v3] (.ref a :: []) h 0 0 = (h.1 a = (0, 1) ∧ eX0_shift ret F n 7 [v0, v1, v2, v3] (va_rf (h.2.2.2.1 a 2) :: []) h 0 0) := (amWp_dec rfl dX0_shift_4 rfl).trans (amS4 (Nat.le_of_ble_eq_true rfl) (Nat.le_of_ble_eq_true rfl) (Nat.le_of_ble_eq_true rfl) (Nat.le_of_ble_eq_true rfl))
theorem wX0_shift_7 {ret F n h} {v0 v2 v3 st x} : eX0_shift ret F (n + 1) 7 [v0, .int x, v2, v3] (st) h 0 0 = (eX0_shift ret F n 8 [v0, .int x, v2, v3] (.int x :: st) h 0 0) := (amWp_dec rfl dX0_shift_7 rfl).trans rfl
theorem wX0_shift_8 {ret F n h} {v0 v1 v2 v3 x1 x0} : eX0_shift ret F (n + 1) 8 [v0, v1, v2, v3] (.int x1 :: .ref x0 :: []) h 0 0 = (h.1 x0 = (0, 2) ∧ tX2_at [.ref x0, .int x1] h (fun v h => eX0_shift ret F n 11 [v0, v1, v2, v3] (v.toList ++ ([])) h 0 0)) := (amWp_dec rfl dX0_shift_8 rfl).trans (amS4 (Nat.le_of_ble_eq_true rfl) (Nat.le_of_ble_eq_true rfl) (Nat.le_of_ble_eq_true rfl) (Nat.le_of_ble_eq_true rfl))
theorem wX0_shift_11 {ret F n h} {v0 v1 v2 v3 st x} : eX0_shift ret F (n + 1) 11 [v0, v1, v2, v3] (.int x :: st) h 0 0 = (eX0_shift ret F n 12 [v0, v1, amClr v2, .int x] (st) h 0 0) := (amWp_dec rfl dX0_shift_11 rfl).trans (amTrue (Nat.le_of_ble_eq_true rfl))
theorem wX0_shift_12 {ret F n h} {v0 v1 v2 v3 st} : eX0_shift ret F (n + 1) 12 [v0, v1, v2, v3] (st) h 0 0 = (amIsR v0 ∧ eX0_shift ret F n 13 [v0, v1, v2, v3] (v0 :: st) h 0 0) := (amWp_dec rfl dX0_shift_12 rfl).trans rfl
theorem wX0_shift_13 {ret F n h} {v0 v1 v2 v3 a} : eX0_shift ret F (n + 1) 13 [v0, v1, v2, v3] (.ref a :: []) h 0 0 = (h.1 a = (0, 0) ∧ eX0_shift ret F n 16 [v0, v1, v2, v3] (va_rf (h.2.2.2.1 a 0) :: []) h 0 0) := (amWp_dec rfl dX0_shift_13 rfl).trans (amS4 (Nat.le_of_ble_eq_true rfl) (Nat.le_of_ble_eq_true rfl) (Nat.le_of_ble_eq_true rfl) (Nat.le_of_ble_eq_true rfl))
theorem wX0_shift_16 {ret F n h} {v0 v1 v2 v3 a} : eX0_shift ret F (n + 1) 16 [v0, v1, v2, v3] (.ref a :: []) h 0 0 = (h.1 a = (0, 1) ∧ eX0_shift ret F n 19 [v0, v1, v2, v3] (va_rf (h.2.2.2.1 a 2) :: []) h 0 0) := (amWp_dec rfl dX0_shift_16 rfl).trans (amS4 (Nat.le_of_ble_eq_true rfl) (Nat.le_of_ble_eq_true rfl) (Nat.le_of_ble_eq_true rfl) (Nat.le_of_ble_eq_true rfl))
theorem wX0_shift_19 {ret F n h} {v0 v2 v3 st x} : eX0_shift ret F (n + 1) 19 [v0, .int x, v2, v3] (st) h 0 0 = (eX0_shift ret F n 20 [v0, .int x, v2, v3] (.int x :: st) h 0 0) := (amWp_dec rfl dX0_shift_19 rfl).trans rfl
theorem wX0_shift_20 {ret F n h} {v0 v1 v2 v3 x1 x0} : eX0_shift ret F (n + 1) 20 [v0, v1, v2, v3] (.int x1 :: .ref x0 :: []) h 0 0 = (h.1 x0 = (0, 2) ∧ tX2_take [.ref x0, .int x1] h (fun v h => eX0_shift ret F n 23 [v0, v1, v2, v3] (v.toList ++ ([])) h 0 0)) := (amWp_dec rfl dX0_shift_20 rfl).trans (amS4 (Nat.le_of_ble_eq_true rfl) (Nat.le_of_ble_eq_true rfl) (Nat.le_of_ble_eq_true rfl) (Nat.le_of_ble_eq_true rfl))
theorem wX0_shift_23 {ret F n ls st h k z} : eX0_shift ret F (n + 1) 23 ls st h k z = F 23 ls st h k z := amWp_cut rfl
theorem uX0_shift_23 {ret F n h} {v0 v1 v2 v3 st} : sX0_shift ret F n 23 [v0, v1, v2, v3] (st) h 0 0 = (amIsR v0 ∧ eX0_shift ret F n 24 [v0, v1, v2, v3] (v0 :: st) h 0 0) := (amWs_dec dX0_shift_23 rfl).trans rfl
theorem wX0_shift_24 {ret F n h} {v0 v1 v2 v3 a} : eX0_shift ret F (n + 1) 24 [v0, v1, v2, v3] (.ref a :: []) h 0 0 = (h.1 a = (0, 0) ∧ eX0_shift ret F n 27 [v0, v1, v2, v3] (va_rf (h.2.2.2.1 a 0) :: []) h 0 0) := (amWp_dec rfl dX0_shift_24 rfl).trans (amS4 (Nat.le_of_ble_eq_true rfl) (Nat.le_of_ble_eq_true rfl) (Nat.le_of_ble_eq_true rfl) (Nat.le_of_ble_eq_true rfl))
theorem wX0_shift_27 {ret F n h} {v0 v1 v2 v3 a} : eX0_shift ret F (n + 1) 27 [v0, v1, v2, v3] (.ref a :: []) h 0 0 = (h.1 a = (0, 1) ∧ eX0_shift ret F n 30 [v0, v1, v2, v3] (va_rf (h.2.2.2.1 a 2) :: []) h 0 0) := (amWp_dec rfl dX0_shift_27 rfl).trans (amS4 (Nat.le_of_ble_eq_true rfl) (Nat.le_of_ble_eq_true rfl) (Nat.le_of_ble_eq_true rfl) (Nat.le_of_ble_eq_true rfl))
theorem wX0_shift_30 {ret F n h} {v0 v1 v3 st x} : eX0_shift ret F (n + 1) 30 [v0, v1, .int x, v3] (st) h 0 0 = (eX0_shift ret F n 31 [v0, v1, .int x, v3] (.int x :: st) h 0 0) := (amWp_dec rfl dX0_shift_30 rfl).trans rfl
theorem wX0_shift_31 {ret F n h} {v0 v1 v2 st x} : eX0_shift ret F (n + 1) 31 [v0, v1, v2, .int x] (st) h 0 0 = (eX0_shift ret F n 32 [v0, v1, v2, .int x] (.int x :: st) h 0 0) := (amWp_dec rfl dX0_shift_31 rfl).trans rfl
theorem wX0_shift_32 {ret F n h} {v0 v1 v2 v3 x2 x1 x0} : eX0_shift ret F (n + 1) 32 [v0, v1, v2, v3] (.int x2 :: .int x1 :: .ref x0 :: []) h 0 0 = (h.1 x0 = (0, 2) ∧ tX2_put [.ref x0, .int x1, .int x2] h (fun v h => eX0_shift ret F n 35 [v0, v1, v2, v3] (v.toList ++ ([])) h 0 0)) := (amWp_dec rfl dX0_shift_32 rfl).trans (amS4 (Nat.le_of_ble_eq_true rfl) (Nat.le_of_ble_eq_true rfl) (Nat.le_of_ble_eq_true rfl) (Nat.le_of_ble_eq_true rfl))
theorem wX0_shift_35 {ret F n ls st h k z} : eX0_shift ret F (n + 1) 35 ls st h k z = F 35 ls st h k z := amWp_cut rfl
theorem uX0_shift_35 {ret F n h} {v0 v1 v2 st x} : sX0_shift ret F n 35 [v0, v1, v2, .int x] (st) h 0 0 = (eX0_shift ret F n 36 [v0, v1, v2, .int x] (.int x :: st) h 0 0) := (amWs_dec dX0_shift_35 rfl).trans rfl
theorem wX0_shift_36 {ret F n h} {v0 v1 v2 v3 x} : eX0_shift ret F (n + 1) 36 [v0, v1, v2, v3] ([.int x]) h 0 0 = (ret (some (.int x)) h 0 0) := (amWp_dec rfl dX0_shift_36 rfl).trans (amTrue ⟨_, rfl, rfl⟩)
theorem evX0_shift (l : Launch) (G : amG) : ∀ pc S i sz, amLk rX0_shift pc = some S → decode cX0_shift pc = .ok (i, sz) → amSiteP pc G l yX0_shift.cls yX0_shift.name yX0_shift.desc (amRm 2 0 0) i sz S.1 S.2.1 S.2.2.1 S.2.2.2 := amLk_ok (by
  refine List.forall_mem_cons.mpr ⟨⟨_, _, dX0_shift_1, amSite.P (amSiteGet ⟨_, rfl, by decide, Or.inl q301⟩)⟩, ?_⟩
  refine List.forall_mem_cons.mpr ⟨⟨_, _, dX0_shift_4, amSite.P (amSiteGet ⟨_, rfl, by decide, Or.inr ⟨"ReadingStages", List.mem_of_getElem? (i := 4) rfl⟩⟩)⟩, ?_⟩
  refine List.forall_mem_cons.mpr ⟨⟨_, _, dX0_shift_8, amSite.P (amSiteV (C := RX2) (metX2_at l G) rfl (by decide) (by decide) (lw_V q512 q420 q1718 q88 q422) ⟨_, rfl, rfl⟩ ⟨rfl, by decide +kernel, by decide +kernel, by decide +kernel⟩)⟩, ?_⟩
  refine List.forall_mem_cons.mpr ⟨⟨_, _, dX0_shift_13, amSite.P (amSiteGet ⟨_, rfl, by decide, Or.inl q301⟩)⟩, ?_⟩
  refine List.forall_mem_cons.mpr ⟨⟨_, _, dX0_shift_16, amSite.P (amSiteGet ⟨_, rfl, by decide, Or.inr ⟨"ReadingStages", List.mem_of_getElem? (i := 4) rfl⟩⟩)⟩, ?_⟩
  refine List.forall_mem_cons.mpr ⟨⟨_, _, dX0_shift_20, amSite.P (amSiteV (C := RX2) (metX2_take l G) rfl (by decide) (by decide) (lw_V q494 q495 q496 q88 q497) ⟨_, rfl, rfl⟩ ⟨rfl, by decide +kernel, by decide +kernel, by decide +kernel⟩)⟩, ?_⟩
  refine List.forall_mem_cons.mpr ⟨⟨_, _, dX0_shift_24, amSite.P (amSiteGet ⟨_, rfl, by decide, Or.inl q301⟩)⟩, ?_⟩
  refine List.forall_mem_cons.mpr ⟨⟨_, _, dX0_shift_27, amSite.P (amSiteGet ⟨_, rfl, by decide, Or.inr ⟨"ReadingStages", List.mem_of_getElem? (i := 4) rfl⟩⟩)⟩, ?_⟩
  refine List.forall_mem_cons.mpr ⟨⟨_, _, dX0_shift_32, amSite.P (amSiteV (C := RX2) (metX2_put l G) rfl (by decide) (by decide) (lw_V q490 q491 q492 q88 q493) ⟨_, rfl, rfl⟩ ⟨rfl, by decide +kernel, by decide +kernel, by decide +kernel⟩)⟩, ?_⟩
  exact fun _ h => absurd h List.not_mem_nil)
theorem goX0_shift {ret F} (hF : amCld cX0_shift kX0_shift (amLk rX0_shift) (some .int) 0 0 ret F) (n : Nat) {pc ls st h k z} (q : sX0_shift ret F n pc ls st h k z) : F pc ls st h k z := hF.1 n pc ls st h k z q
theorem metX0_shift (l : Launch) (G : amG) : amMet l G yX0_shift (ws_ yX0_shift cX0_shift 4 (some .int)) 2 0 0 tX0_shift := by
  refine amMet_of (cut := kX0_shift) (by decide +kernel) (evX0_shift l G) ?_
  intro as h K hT
  match as, hT with
  | [.ref a, .int p0, .int q0], ⟨S, p, q, e1, e2, e3, hR, hS, hp, hq, hK⟩ =>
  refine ⟨Nat.le_of_ble_eq_true rfl, fun F hF => ?_⟩
  show F 0 [.ref a, .int p0, .int q0, .retAddr 0] [] h 0 0
  obtain ⟨a, rfl⟩ : ∃ i : Nat, i = a := ⟨_, rfl⟩
  subst e1; subst e2; subst e3
  have n7 := hS.n7
  have hbd := hR.now.2.2.2.2.2.2
  have at1 := hS.ord.2.2.2 p hp
  have x7 := hS.ord.2.1 _ (getD_mem hp)
  refine goX0_shift hF 60 ?_
  simp (disch := omega) only [wX0_shift_0, uX0_shift_0, wX0_shift_1, wX0_shift_4, wX0_shift_7, wX0_shift_8, wX0_shift_11, wX0_shift_12, wX0_shift_13, wX0_shift_16, wX0_shift_19, wX0_shift_20, wX0_shift_23, uX0_shift_23, wX0_shift_24, wX0_shift_27, wX0_shift_30, wX0_shift_31, wX0_shift_32, wX0_shift_35, uX0_shift_35, wX0_shift_36, amSI_1, amSI_2, amSI_3, amSI_s, amU_at, amIsR_ref, amIsR_null, amIsR_rf, amRf_some, amRf_none, amClr_int, amClr_ref, amClr_null, amClr_long, amClr_ra, amClr_rf, amFit_int, amFit_oref, amFit_aref, amFit_onull, amFit_anull, amOptSome, amOptNone, List.cons_append, List.nil_append, true_and, and_true, true_implies, not_true_eq_false, not_false_eq_true, false_implies, and_self, Nat.add_zero, Nat.zero_add, ne_eq, Prod.mk.injEq, amC01_0, amC01_1, amC01_nb, amNb0, amNb1, amTcpI_d, Nat.reduceLeDiff, Nat.reduceAdd, Nat.reduceSub, Nat.reduceEqDiff, Nat.le_refl, amN0le, hR.s, hR.r, tX2_at_d, hbd, bdAt, hbd.1, hbd.2.1, hbd.2.2, amVI, amCl_nI, at1, tX2_take_d]
  refine ⟨S.ord, p, rfl, hS.ord, hp, fun m1 q1 q2 => ?_⟩
  have le : (S.ord.eraseIdx p).length = S.ord.length - 1 := List.length_eraseIdx_of_lt hp
  refine goX0_shift hF 60 ?_
  simp (disch := omega) only [wX0_shift_0, uX0_shift_0, wX0_shift_1, wX0_shift_4, wX0_shift_7, wX0_shift_8, wX0_shift_11, wX0_shift_12, wX0_shift_13, wX0_shift_16, wX0_shift_19, wX0_shift_20, wX0_shift_23, uX0_shift_23, wX0_shift_24, wX0_shift_27, wX0_shift_30, wX0_shift_31, wX0_shift_32, wX0_shift_35, uX0_shift_35, wX0_shift_36, amSI_1, amSI_2, amSI_3, amSI_s, amU_at, amIsR_ref, amIsR_null, amIsR_rf, amRf_some, amRf_none, amClr_int, amClr_ref, amClr_null, amClr_long, amClr_ra, amClr_rf, amFit_int, amFit_oref, amFit_aref, amFit_onull, amFit_anull, amOptSome, amOptNone, List.cons_append, List.nil_append, true_and, and_true, true_implies, not_true_eq_false, not_false_eq_true, false_implies, and_self, Nat.add_zero, Nat.zero_add, ne_eq, Prod.mk.injEq, amC01_0, amC01_1, amC01_nb, amNb0, amNb1, amTcpI_d, Nat.reduceLeDiff, Nat.reduceAdd, Nat.reduceSub, Nat.reduceEqDiff, Nat.le_refl, amN0le, hR.s, hR.r, tX2_put_d]
  refine ⟨S.ord.eraseIdx p, q, S.ord.getD p 0, rfl, rfl, hR.now.2.2.2.2.2.2, q1, by omega, by omega, x7, fun m2 r1 r2 => ?_⟩
  have fr : bdFr h.2.1 m2 28 := fun i hi => (r2 i hi).trans (q2 i hi)
  have ll : ((S.ord.eraseIdx p).insertIdx q (S.ord.getD p 0)).length = S.ord.length := by rw [List.length_insertIdx_of_le_length (by omega), le]; omega
  have key := hK m2 (hS.setO fr ll r1) fr.hs
  refine goX0_shift hF 60 ?_
  simp (disch := omega) only [wX0_shift_0, uX0_shift_0, wX0_shift_1, wX0_shift_4, wX0_shift_7, wX0_shift_8, wX0_shift_11, wX0_shift_12, wX0_shift_13, wX0_shift_16, wX0_shift_19, wX0_shift_20, wX0_shift_23, uX0_shift_23, wX0_shift_24, wX0_shift_27, wX0_shift_30, wX0_shift_31, wX0_shift_32, wX0_shift_35, uX0_shift_35, wX0_shift_36, amSI_1, amSI_2, amSI_3, amSI_s, amU_at, amIsR_ref, amIsR_null, amIsR_rf, amRf_some, amRf_none, amClr_int, amClr_ref, amClr_null, amClr_long, amClr_ra, amClr_rf, amFit_int, amFit_oref, amFit_aref, amFit_onull, amFit_anull, amOptSome, amOptNone, List.cons_append, List.nil_append, true_and, and_true, true_implies, not_true_eq_false, not_false_eq_true, false_implies, and_self, Nat.add_zero, Nat.zero_add, ne_eq, Prod.mk.injEq, amC01_0, amC01_1, amC01_nb, amNb0, amNb1, amTcpI_d, Nat.reduceLeDiff, Nat.reduceAdd, Nat.reduceSub, Nat.reduceEqDiff, Nat.le_refl, amN0le, hR.s, hR.r]
  exact amRet.of (by decide) (by decide) key
theorem tX0_shift_d {a : Nat} {p0 q0 : Int32} {h : amH} {K : Option Value → amH → Prop} : tX0_shift [.ref a, .int p0, .int q0] h K = ∃ (S : HS) (p q : Nat), a = (24 : Nat) ∧ p0 = nI p ∧ q0 = nI q ∧ rsAt h ∧ HsIs h.2.1 25 S ∧ p < S.ord.length ∧ q < S.ord.length ∧ ∀ m', HsIs m' 25 (S.shift p q) → hsFr h.2.1 m' 25 → K (some (.int (nI (S.ord.getD p 0)))) (amSI h m') := rfl
def moveR (X : XS) (p q : Int32) : XS × Int32 := if ¬ ((p.toNatClampNeg < X.1.ord.length ∧ p = nI p.toNatClampNeg) ∧ (q.toNatClampNeg < X.1.ord.length ∧ q = nI q.toNatClampNeg)) then (X, -1) else if p = q then (X, -2) else (actX X (X.1.shift p.toNatClampNeg q.toNatClampNeg), nI (X.1.ord.getD p.toNatClampNeg 0))
def tX0_move : amT := fun as h K => match as with
  | [.ref a, .int x, .int y] => ∃ X : XS, a = (24 : Nat) ∧ RsW h X ∧ ∀ h', rsFr h h' → RsW h' (moveR X x y).1 → K (some (.int (moveR X x y).2)) h'
  | _ => False
/-! ReadingStages.move(II)I -/
def kX0_move : Nat → Bool := fun pc => pc == 32 || pc == 38
def rX0_move : List (Nat × amS) := [(3, 2, 0, 0, (amRecv 0 tX0_isBook)), (12, 2, 0, 0, (amRecv 0 tX0_isBook)), (29, 1, 0, 0, (amRecv 0 tX0_note)), (35, 3, 0, 0, (amRecv 0 tX0_shift))]
def eX0_move (ret : Option Value → amH → Nat → Nat → Prop) (F : amX) : Nat → amX := amWp cX0_move kX0_move (amLk rX0_move) (some .int) 0 0 ret F
def sX0_move (ret : Option Value → amH → Nat → Nat → Prop) (F : amX) : Nat → amX := amWs cX0_move kX0_move (amLk rX0_move) (some .int) 0 0 ret F
theorem wX0_move_0 {ret F n h} {v0 v1 v2 st} : eX0_move ret F (n + 1) 0 [v0, v1, v2] (st) h 0 0 = (amIsR v0 ∧ eX0_move ret F n 1 [v0, v1, v2] (v0 :: st) h 0 0) := (amWp_dec rfl dX0_move_0 rfl).trans rfl
theorem uX0_move_0 {ret F n h} {v0 v1 v2 st} : sX0_move ret F n 0 [v0, v1, v2] (st) h 0 0 = (amIsR v0 ∧ eX0_move ret F n 1 [v0, v1, v2] (v0 :: st) h 0 0) := (amWs_dec dX0_move_0 rfl).trans rfl
theorem wX0_move_1 {ret F n h} {v0 v2 st x} : eX0_move ret F (n + 1) 1 [v0, .int x, v2] (st) h 0 0 = (eX0_move ret F n 2 [v0, .int x, v2] (.int x :: st) h 0 0) := (amWp_dec rfl dX0_move_1 rfl).trans rfl
theorem wX0_move_2 {ret F n h} {v0 v1 v2 st x} : eX0_move ret F (n + 1) 2 [v0, v1, v2] (.int x :: st) h 0 0 = (eX0_move ret F n 3 [v0, v1, v2] (.long x.toInt64 :: st) h 0 0) := (amWp_dec rfl dX0_move_2 rfl).trans rfl
theorem wX0_move_3 {ret F n h} {v0 v1 v2 x1 x0} : eX0_move ret F (n + 1) 3 [v0, v1, v2] (.long x1 :: .ref x0 :: []) h 0 0 = (h.1 x0 = (0, 0) ∧ tX0_isBook [.ref x0, .long x1] h (fun v h => eX0_move ret F n 6 [v0, v1, v2] (v.toList ++ ([])) h 0 0)) := (amWp_dec rfl dX0_move_3 rfl).trans (amS4 (Nat.le_of_ble_eq_true rfl) (Nat.le_of_ble_eq_true rfl) (Nat.le_of_ble_eq_true rfl) (Nat.le_of_ble_eq_true rfl))
theorem wX0_move_6 {ret F n h} {v0 v1 v2 st x} : eX0_move ret F (n + 1) 6 [v0, v1, v2] (.int x :: st) h 0 0 = ((x = 0 → eX0_move ret F n 18 [v0, v1, v2] (st) h 0 0) ∧ (¬ x = 0 → eX0_move ret F n 9 [v0, v1, v2] (st) h 0 0)) := (amWp_dec rfl dX0_move_6 rfl).trans rfl
theorem wX0_move_9 {ret F n h} {v0 v1 v2 st} : eX0_move ret F (n + 1) 9 [v0, v1, v2] (st) h 0 0 = (amIsR v0 ∧ eX0_move ret F n 10 [v0, v1, v2] (v0 :: st) h 0 0) := (amWp_dec rfl dX0_move_9 rfl).trans rfl
theorem wX0_move_10 {ret F n h} {v0 v1 st x} : eX0_move ret F (n + 1) 10 [v0, v1, .int x] (st) h 0 0 = (eX0_move ret F n 11 [v0, v1, .int x] (.int x :: st) h 0 0) := (amWp_dec rfl dX0_move_10 rfl).trans rfl
theorem wX0_move_11 {ret F n h} {v0 v1 v2 st x} : eX0_move ret F (n + 1) 11 [v0, v1, v2] (.int x :: st) h 0 0 = (eX0_move ret F n 12 [v0, v1, v2] (.long x.toInt64 :: st) h 0 0) := (amWp_dec rfl dX0_move_11 rfl).trans rfl
theorem wX0_move_12 {ret F n h} {v0 v1 v2 x1 x0} : eX0_move ret F (n + 1) 12 [v0, v1, v2] (.long x1 :: .ref x0 :: []) h 0 0 = (h.1 x0 = (0, 0) ∧ tX0_isBook [.ref x0, .long x1] h (fun v h => eX0_move ret F n 15 [v0, v1, v2] (v.toList ++ ([])) h 0 0)) := (amWp_dec rfl dX0_move_12 rfl).trans (amS4 (Nat.le_of_ble_eq_true rfl) (Nat.le_of_ble_eq_true rfl) (Nat.le_of_ble_eq_true rfl) (Nat.le_of_ble_eq_true rfl))
theorem wX0_move_15 {ret F n h} {v0 v1 v2 st x} : eX0_move ret F (n + 1) 15 [v0, v1, v2] (.int x :: st) h 0 0 = ((¬ x = 0 → eX0_move ret F n 20 [v0, v1, v2] (st) h 0 0) ∧ (x = 0 → eX0_move ret F n 18 [v0, v1, v2] (st) h 0 0)) := (amWp_dec rfl dX0_move_15 rfl).trans rfl
theorem wX0_move_18 {ret F n h} {v0 v1 v2 st} : eX0_move ret F (n + 1) 18 [v0, v1, v2] (st) h 0 0 = (eX0_move ret F n 19 [v0, v1, v2] (.int (-1) :: st) h 0 0) := (amWp_dec rfl dX0_move_18 rfl).trans rfl
theorem wX0_move_19 {ret F n h} {v0 v1 v2 x} : eX0_move ret F (n + 1) 19 [v0, v1, v2] ([.int x]) h 0 0 = (ret (some (.int x)) h 0 0) := (amWp_dec rfl dX0_move_19 rfl).trans (amTrue ⟨_, rfl, rfl⟩)
theorem wX0_move_20 {ret F n h} {v0 v2 st x} : eX0_move ret F (n + 1) 20 [v0, .int x, v2] (st) h 0 0 = (eX0_move ret F n 21 [v0, .int x, v2] (.int x :: st) h 0 0) := (amWp_dec rfl dX0_move_20 rfl).trans rfl
theorem wX0_move_21 {ret F n h} {v0 v1 st x} : eX0_move ret F (n + 1) 21 [v0, v1, .int x] (st) h 0 0 = (eX0_move ret F n 22 [v0, v1, .int x] (.int x :: st) h 0 0) := (amWp_dec rfl dX0_move_21 rfl).trans rfl
theorem wX0_move_22 {ret F n h} {v0 v1 v2 st y x} : eX0_move ret F (n + 1) 22 [v0, v1, v2] (.int y :: .int x :: st) h 0 0 = ((¬ x = y → eX0_move ret F n 28 [v0, v1, v2] (st) h 0 0) ∧ (x = y → eX0_move ret F n 25 [v0, v1, v2] (st) h 0 0)) := (amWp_dec rfl dX0_move_22 rfl).trans rfl
theorem wX0_move_25 {ret F n h} {v0 v1 v2 st} : eX0_move ret F (n + 1) 25 [v0, v1, v2] (st) h 0 0 = (eX0_move ret F n 27 [v0, v1, v2] (.int (-2) :: st) h 0 0) := (amWp_dec rfl dX0_move_25 rfl).trans rfl
theorem wX0_move_27 {ret F n h} {v0 v1 v2 x} : eX0_move ret F (n + 1) 27 [v0, v1, v2] ([.int x]) h 0 0 = (ret (some (.int x)) h 0 0) := (amWp_dec rfl dX0_move_27 rfl).trans (amTrue ⟨_, rfl, rfl⟩)
theorem wX0_move_28 {ret F n h} {v0 v1 v2 st} : eX0_move ret F (n + 1) 28 [v0, v1, v2] (st) h 0 0 = (amIsR v0 ∧ eX0_move ret F n 29 [v0, v1, v2] (v0 :: st) h 0 0) := (amWp_dec rfl dX0_move_28 rfl).trans rfl
theorem wX0_move_29 {ret F n h} {v0 v1 v2 x0} : eX0_move ret F (n + 1) 29 [v0, v1, v2] (.ref x0 :: []) h 0 0 = (h.1 x0 = (0, 0) ∧ tX0_note [.ref x0] h (fun v h => eX0_move ret F n 32 [v0, v1, v2] (v.toList ++ ([])) h 0 0)) := (amWp_dec rfl dX0_move_29 rfl).trans (amS4 (Nat.le_of_ble_eq_true rfl) (Nat.le_of_ble_eq_true rfl) (Nat.le_of_ble_eq_true rfl) (Nat.le_of_ble_eq_true rfl))
theorem wX0_move_32 {ret F n ls st h k z} : eX0_move ret F (n + 1) 32 ls st h k z = F 32 ls st h k z := amWp_cut rfl
theorem uX0_move_32 {ret F n h} {v0 v1 v2 st} : sX0_move ret F n 32 [v0, v1, v2] (st) h 0 0 = (amIsR v0 ∧ eX0_move ret F n 33 [v0, v1, v2] (v0 :: st) h 0 0) := (amWs_dec dX0_move_32 rfl).trans rfl
theorem wX0_move_33 {ret F n h} {v0 v2 st x} : eX0_move ret F (n + 1) 33 [v0, .int x, v2] (st) h 0 0 = (eX0_move ret F n 34 [v0, .int x, v2] (.int x :: st) h 0 0) := (amWp_dec rfl dX0_move_33 rfl).trans rfl
theorem wX0_move_34 {ret F n h} {v0 v1 st x} : eX0_move ret F (n + 1) 34 [v0, v1, .int x] (st) h 0 0 = (eX0_move ret F n 35 [v0, v1, .int x] (.int x :: st) h 0 0) := (amWp_dec rfl dX0_move_34 rfl).trans rfl
theorem wX0_move_35 {ret F n h} {v0 v1 v2 x2 x1 x0} : eX0_move ret F (n + 1) 35 [v0, v1, v2] (.int x2 :: .int x1 :: .ref x0 :: []) h 0 0 = (h.1 x0 = (0, 0) ∧ tX0_shift [.ref x0, .int x1, .int x2] h (fun v h => eX0_move ret F n 38 [v0, v1, v2] (v.toList ++ ([])) h 0 0)) := (amWp_dec rfl dX0_move_35 rfl).trans (amS4 (Nat.le_of_ble_eq_true rfl) (Nat.le_of_ble_eq_true rfl) (Nat.le_of_ble_eq_true rfl) (Nat.le_of_ble_eq_true rfl))
theorem wX0_move_38 {ret F n ls st h k z} : eX0_move ret F (n + 1) 38 ls st h k z = F 38 ls st h k z := amWp_cut rfl
theorem uX0_move_38 {ret F n h} {v0 v1 v2 x} : sX0_move ret F n 38 [v0, v1, v2] ([.int x]) h 0 0 = (ret (some (.int x)) h 0 0) := (amWs_dec dX0_move_38 rfl).trans (amTrue ⟨_, rfl, rfl⟩)
theorem evX0_move (l : Launch) (G : amG) : ∀ pc S i sz, amLk rX0_move pc = some S → decode cX0_move pc = .ok (i, sz) → amSiteP pc G l yX0_move.cls yX0_move.name yX0_move.desc (amRm 4 0 0) i sz S.1 S.2.1 S.2.2.1 S.2.2.2 := amLk_ok (by
  refine List.forall_mem_cons.mpr ⟨⟨_, _, dX0_move_3, amSite.P (amSiteV (C := RX0) (metX0_isBook l G) rfl (by decide) (by decide) (lw_V q549 q551 qs20 q86 q552) ⟨_, rfl, rfl⟩ ⟨rfl, by decide +kernel, by decide +kernel, by decide +kernel⟩)⟩, ?_⟩
  refine List.forall_mem_cons.mpr ⟨⟨_, _, dX0_move_12, amSite.P (amSiteV (C := RX0) (metX0_isBook l G) rfl (by decide) (by decide) (lw_V q549 q551 qs20 q86 q552) ⟨_, rfl, rfl⟩ ⟨rfl, by decide +kernel, by decide +kernel, by decide +kernel⟩)⟩, ?_⟩
  refine List.forall_mem_cons.mpr ⟨⟨_, _, dX0_move_29, amSite.P (amSiteV (C := RX0) (metX0_note l G) rfl (by decide) (by decide) (lw_V q881 q883 qs24 q86 q884) ⟨_, rfl, rfl⟩ ⟨rfl, by decide +kernel, by decide +kernel, by decide +kernel⟩)⟩, ?_⟩
  refine List.forall_mem_cons.mpr ⟨⟨_, _, dX0_move_35, amSite.P (amSiteV (C := RX0) (metX0_shift l G) rfl (by decide) (by decide) (lw_V q949 q951 qs26 q86 q952) ⟨_, rfl, rfl⟩ ⟨rfl, by decide +kernel, by decide +kernel, by decide +kernel⟩)⟩, ?_⟩
  exact fun _ h => absurd h List.not_mem_nil)
theorem goX0_move {ret F} (hF : amCld cX0_move kX0_move (amLk rX0_move) (some .int) 0 0 ret F) (n : Nat) {pc ls st h k z} (q : sX0_move ret F n pc ls st h k z) : F pc ls st h k z := hF.1 n pc ls st h k z q
theorem metX0_move (l : Launch) (G : amG) : amMet l G yX0_move (ws_ yX0_move cX0_move 3 (some .int)) 4 0 0 tX0_move := by
  refine amMet_of (cut := kX0_move) (by decide +kernel) (evX0_move l G) ?_
  intro as h K hT
  match as, hT with
  | [.ref a, .int x, .int y], ⟨X, e1, w, hK⟩ =>
  refine ⟨Nat.le_of_ble_eq_true rfl, fun F hF => ?_⟩
  show F 0 [.ref a, .int x, .int y] [] h 0 0
  obtain ⟨a, rfl⟩ : ∃ i : Nat, i = a := ⟨_, rfl⟩
  subst e1
  have hR := w.1.1
  have hS := w.1.2.1
  have hO := w.1.2.2.1
  have n7 := hS.n7
  have hm := hS.many
  have key := hK
  refine goX0_move hF 60 ?_
  simp (disch := omega) only [wX0_move_0, uX0_move_0, wX0_move_1, wX0_move_2, wX0_move_3, wX0_move_6, wX0_move_9, wX0_move_10, wX0_move_11, wX0_move_12, wX0_move_15, wX0_move_18, wX0_move_19, wX0_move_20, wX0_move_21, wX0_move_22, wX0_move_25, wX0_move_27, wX0_move_28, wX0_move_29, wX0_move_32, uX0_move_32, wX0_move_33, wX0_move_34, wX0_move_35, wX0_move_38, uX0_move_38, amSI_1, amSI_2, amSI_3, amSI_s, amU_at, amIsR_ref, amIsR_null, amIsR_rf, amRf_some, amRf_none, amClr_int, amClr_ref, amClr_null, amClr_long, amClr_ra, amClr_rf, amFit_int, amFit_oref, amFit_aref, amFit_onull, amFit_anull, amOptSome, amOptNone, List.cons_append, List.nil_append, true_and, and_true, true_implies, not_true_eq_false, not_false_eq_true, false_implies, and_self, Nat.add_zero, Nat.zero_add, ne_eq, Prod.mk.injEq, amC01_0, amC01_1, amC01_nb, amNb0, amNb1, amTcpI_d, Nat.reduceLeDiff, Nat.reduceAdd, Nat.reduceSub, Nat.reduceEqDiff, Nat.le_refl, amN0le, hR.s, hR.r, tX0_isBook_d, hm, isBk n7, hR]
  have bad : ¬ ((x.toNatClampNeg < X.1.ord.length ∧ x = nI x.toNatClampNeg) ∧ (y.toNatClampNeg < X.1.ord.length ∧ y = nI y.toNatClampNeg)) → amRet 0 0 K (some (.int (-1))) h 0 0 := fun e => by
    rw [moveR, if_pos e] at key
    exact amRet.of (by decide) (by decide) (key h (rsFr.rf h) w)
  refine ⟨fun z => bad (fun q => z ((isBk2 n7).mpr q.1)), fun z1 => ⟨fun z2 => ?_, fun z => bad (fun q => z ((isBk2 n7).mpr q.2))⟩⟩
  have q1 := (isBk2 n7).mp (Classical.not_not.mp z1)
  have q2 := (isBk2 n7).mp (Classical.not_not.mp z2)
  rw [moveR, if_neg (fun z => z ⟨q1, q2⟩)] at key
  refine ⟨fun z3 => note_of w (fun h1 f1 hR1 _ hS1 hU1 => ?_), fun z3 => ?_⟩
  · rw [if_neg z3] at key
    have hR := hR1
    obtain ⟨i, hi, rfl⟩ := (isBk2 n7).mpr q1
    obtain ⟨j, hj, rfl⟩ := (isBk2 n7).mpr q2
    rw [amCl_nI (by omega), amCl_nI (by omega)] at key
    refine goX0_move hF 60 ?_
    simp (disch := omega) only [wX0_move_0, uX0_move_0, wX0_move_1, wX0_move_2, wX0_move_3, wX0_move_6, wX0_move_9, wX0_move_10, wX0_move_11, wX0_move_12, wX0_move_15, wX0_move_18, wX0_move_19, wX0_move_20, wX0_move_21, wX0_move_22, wX0_move_25, wX0_move_27, wX0_move_28, wX0_move_29, wX0_move_32, uX0_move_32, wX0_move_33, wX0_move_34, wX0_move_35, wX0_move_38, uX0_move_38, amSI_1, amSI_2, amSI_3, amSI_s, amU_at, amIsR_ref, amIsR_null, amIsR_rf, amRf_some, amRf_none, amClr_int, amClr_ref, amClr_null, amClr_long, amClr_ra, amClr_rf, amFit_int, amFit_oref, amFit_aref, amFit_onull, amFit_anull, amOptSome, amOptNone, List.cons_append, List.nil_append, true_and, and_true, true_implies, not_true_eq_false, not_false_eq_true, false_implies, and_self, Nat.add_zero, Nat.zero_add, ne_eq, Prod.mk.injEq, amC01_0, amC01_1, amC01_nb, amNb0, amNb1, amTcpI_d, Nat.reduceLeDiff, Nat.reduceAdd, Nat.reduceSub, Nat.reduceEqDiff, Nat.le_refl, amN0le, hR.s, hR.r, tX0_shift_d]
    refine ⟨X.1, i, j, rfl, rfl, hR1, hS1, hi, hj, fun m' p1 p2 => ?_⟩
    obtain ⟨g1, g2⟩ := w.act f1 hU1 rfl p2 p1 (hO.shift hi hj)
    have key := key _ g1 g2
    refine goX0_move hF 60 ?_
    simp (disch := omega) only [wX0_move_0, uX0_move_0, wX0_move_1, wX0_move_2, wX0_move_3, wX0_move_6, wX0_move_9, wX0_move_10, wX0_move_11, wX0_move_12, wX0_move_15, wX0_move_18, wX0_move_19, wX0_move_20, wX0_move_21, wX0_move_22, wX0_move_25, wX0_move_27, wX0_move_28, wX0_move_29, wX0_move_32, uX0_move_32, wX0_move_33, wX0_move_34, wX0_move_35, wX0_move_38, uX0_move_38, amSI_1, amSI_2, amSI_3, amSI_s, amU_at, amIsR_ref, amIsR_null, amIsR_rf, amRf_some, amRf_none, amClr_int, amClr_ref, amClr_null, amClr_long, amClr_ra, amClr_rf, amFit_int, amFit_oref, amFit_aref, amFit_onull, amFit_anull, amOptSome, amOptNone, List.cons_append, List.nil_append, true_and, and_true, true_implies, not_true_eq_false, not_false_eq_true, false_implies, and_self, Nat.add_zero, Nat.zero_add, ne_eq, Prod.mk.injEq, amC01_0, amC01_1, amC01_nb, amNb0, amNb1, amTcpI_d, Nat.reduceLeDiff, Nat.reduceAdd, Nat.reduceSub, Nat.reduceEqDiff, Nat.le_refl, amN0le, hR.s, hR.r]
    exact amRet.of (by decide) (by decide) key
  · rw [if_pos z3] at key
    exact amRet.of (by decide) (by decide) (key h (rsFr.rf h) w)
theorem tX0_move_d {a : Nat} {x y : Int32} {h : amH} {K : Option Value → amH → Prop} : tX0_move [.ref a, .int x, .int y] h K = ∃ X : XS, a = (24 : Nat) ∧ RsW h X ∧ ∀ h', rsFr h h' → RsW h' (moveR X x y).1 → K (some (.int (moveR X x y).2)) h' := rfl
theorem getLast_eq {U : List HS} (h : U ≠ []) : U.getD (U.length - 1) HS0 ∈ U := by
  have := List.length_pos_iff.mpr h
  rw [List.getD_eq_getElem?_getD, List.getElem?_eq_getElem (by omega)]
  exact List.getElem_mem _
def undoR (X : XS) : XS × Int32 := if X.2.1.length = 0 then (X, -4) else ((X.2.1.getD (X.2.1.length - 1) HS0, X.2.1.dropLast, X.2.2), nI (X.2.1.length - 1))
def tX0_undo : amT := fun as h K => match as with
  | [.ref a] => ∃ X : XS, a = (24 : Nat) ∧ RsW h X ∧ ∀ h', rsFr h h' → RsW h' (undoR X).1 → K (some (.int (undoR X).2)) h'
  | _ => False
/-! ReadingStages.undo()I -/
def kX0_undo : Nat → Bool := fun pc => pc == 36
def rX0_undo : List (Nat × amS) := [(1, 1, 0, 0, amTget 0 15), (12, 1, 0, 0, amTget 0 15), (17, 2, 0, 0, amTput 0 15), (21, 1, 0, 0, amTget 0 0), (25, 1, 0, 0, amTget 0 14), (29, 1, 0, 0, amTget 0 15), (33, 2, 0, 0, (amRecv 1 tX1_takeFrom)), (37, 1, 0, 0, amTget 0 15)]
def eX0_undo (ret : Option Value → amH → Nat → Nat → Prop) (F : amX) : Nat → amX := amWp cX0_undo kX0_undo (amLk rX0_undo) (some .int) 0 0 ret F
def sX0_undo (ret : Option Value → amH → Nat → Nat → Prop) (F : amX) : Nat → amX := amWs cX0_undo kX0_undo (amLk rX0_undo) (some .int) 0 0 ret F
theorem wX0_undo_0 {ret F n h} {v0 st} : eX0_undo ret F (n + 1) 0 [v0] (st) h 0 0 = (amIsR v0 ∧ eX0_undo ret F n 1 [v0] (v0 :: st) h 0 0) := (amWp_dec rfl dX0_undo_0 rfl).trans rfl
theorem uX0_undo_0 {ret F n h} {v0 st} : sX0_undo ret F n 0 [v0] (st) h 0 0 = (amIsR v0 ∧ eX0_undo ret F n 1 [v0] (v0 :: st) h 0 0) := (amWs_dec dX0_undo_0 rfl).trans rfl
theorem wX0_undo_1 {ret F n h} {v0 a} : eX0_undo ret F (n + 1) 1 [v0] (.ref a :: []) h 0 0 = (h.1 a = (0, 0) ∧ eX0_undo ret F n 4 [v0] (.int (h.2.1 a 15) :: []) h 0 0) := (amWp_dec rfl dX0_undo_1 rfl).trans (amS4 (Nat.le_of_ble_eq_true rfl) (Nat.le_of_ble_eq_true rfl) (Nat.le_of_ble_eq_true rfl) (Nat.le_of_ble_eq_true rfl))
theorem wX0_undo_4 {ret F n h} {v0 st x} : eX0_undo ret F (n + 1) 4 [v0] (.int x :: st) h 0 0 = ((¬ x = 0 → eX0_undo ret F n 10 [v0] (st) h 0 0) ∧ (x = 0 → eX0_undo ret F n 7 [v0] (st) h 0 0)) := (amWp_dec rfl dX0_undo_4 rfl).trans rfl
theorem wX0_undo_7 {ret F n h} {v0 st} : eX0_undo ret F (n + 1) 7 [v0] (st) h 0 0 = (eX0_undo ret F n 9 [v0] (.int (-4) :: st) h 0 0) := (amWp_dec rfl dX0_undo_7 rfl).trans rfl
theorem wX0_undo_9 {ret F n h} {v0 x} : eX0_undo ret F (n + 1) 9 [v0] ([.int x]) h 0 0 = (ret (some (.int x)) h 0 0) := (amWp_dec rfl dX0_undo_9 rfl).trans (amTrue ⟨_, rfl, rfl⟩)
theorem wX0_undo_10 {ret F n h} {v0 st} : eX0_undo ret F (n + 1) 10 [v0] (st) h 0 0 = (amIsR v0 ∧ eX0_undo ret F n 11 [v0] (v0 :: st) h 0 0) := (amWp_dec rfl dX0_undo_10 rfl).trans rfl
theorem wX0_undo_11 {ret F n h} {v0 st b} : eX0_undo ret F (n + 1) 11 [v0] (.ref b :: st) h 0 0 = (eX0_undo ret F n 12 [v0] (.ref b :: .ref b :: st) h 0 0) := (amWp_dec rfl dX0_undo_11 rfl).trans (amTrue rfl)
theorem wX0_undo_12 {ret F n h} {v0 r0 a} : eX0_undo ret F (n + 1) 12 [v0] (.ref a :: r0 :: []) h 0 0 = (h.1 a = (0, 0) ∧ eX0_undo ret F n 15 [v0] (.int (h.2.1 a 15) :: r0 :: []) h 0 0) := (amWp_dec rfl dX0_undo_12 rfl).trans (amS4 (Nat.le_of_ble_eq_true rfl) (Nat.le_of_ble_eq_true rfl) (Nat.le_of_ble_eq_true rfl) (Nat.le_of_ble_eq_true rfl))
theorem wX0_undo_15 {ret F n h} {v0 st} : eX0_undo ret F (n + 1) 15 [v0] (st) h 0 0 = (eX0_undo ret F n 16 [v0] (.int (nI 1) :: st) h 0 0) := (amWp_dec rfl dX0_undo_15 rfl).trans rfl
theorem wX0_undo_16 {ret F n h} {v0 st y x} : eX0_undo ret F (n + 1) 16 [v0] (.int y :: .int x :: st) h 0 0 = (eX0_undo ret F n 17 [v0] (.int (x - y) :: st) h 0 0) := (amWp_dec rfl dX0_undo_16 rfl).trans rfl
theorem wX0_undo_17 {ret F n h} {v0 x a} : eX0_undo ret F (n + 1) 17 [v0] (.int x :: .ref a :: []) h 0 0 = (h.1 a = (0, 0) ∧ amN0 ≤ a ∧ amFit .int (.int x) ∧ eX0_undo ret F n 20 [v0] ([]) (amSI h (amU h.2.1 a 15 x)) 0 0) := (amWp_dec rfl dX0_undo_17 rfl).trans (amS4 (Nat.le_of_ble_eq_true rfl) (Nat.le_of_ble_eq_true rfl) (Nat.le_of_ble_eq_true rfl) (Nat.le_of_ble_eq_true rfl))
theorem wX0_undo_20 {ret F n h} {v0 st} : eX0_undo ret F (n + 1) 20 [v0] (st) h 0 0 = (amIsR v0 ∧ eX0_undo ret F n 21 [v0] (v0 :: st) h 0 0) := (amWp_dec rfl dX0_undo_20 rfl).trans rfl
theorem wX0_undo_21 {ret F n h} {v0 a} : eX0_undo ret F (n + 1) 21 [v0] (.ref a :: []) h 0 0 = (h.1 a = (0, 0) ∧ eX0_undo ret F n 24 [v0] (va_rf (h.2.2.2.1 a 0) :: []) h 0 0) := (amWp_dec rfl dX0_undo_21 rfl).trans (amS4 (Nat.le_of_ble_eq_true rfl) (Nat.le_of_ble_eq_true rfl) (Nat.le_of_ble_eq_true rfl) (Nat.le_of_ble_eq_true rfl))
theorem wX0_undo_24 {ret F n h} {v0 st} : eX0_undo ret F (n + 1) 24 [v0] (st) h 0 0 = (amIsR v0 ∧ eX0_undo ret F n 25 [v0] (v0 :: st) h 0 0) := (amWp_dec rfl dX0_undo_24 rfl).trans rfl
theorem wX0_undo_25 {ret F n h} {v0 r0 a} : eX0_undo ret F (n + 1) 25 [v0] (.ref a :: r0 :: []) h 0 0 = (h.1 a = (0, 0) ∧ eX0_undo ret F n 28 [v0] (va_rf (h.2.2.2.1 a 14) :: r0 :: []) h 0 0) := (amWp_dec rfl dX0_undo_25 rfl).trans (amS4 (Nat.le_of_ble_eq_true rfl) (Nat.le_of_ble_eq_true rfl) (Nat.le_of_ble_eq_true rfl) (Nat.le_of_ble_eq_true rfl))
theorem wX0_undo_28 {ret F n h} {v0 st} : eX0_undo ret F (n + 1) 28 [v0] (st) h 0 0 = (amIsR v0 ∧ eX0_undo ret F n 29 [v0] (v0 :: st) h 0 0) := (amWp_dec rfl dX0_undo_28 rfl).trans rfl
theorem wX0_undo_29 {ret F n h} {v0 r0 r1 a} : eX0_undo ret F (n + 1) 29 [v0] (.ref a :: r0 :: r1 :: []) h 0 0 = (h.1 a = (0, 0) ∧ eX0_undo ret F n 32 [v0] (.int (h.2.1 a 15) :: r0 :: r1 :: []) h 0 0) := (amWp_dec rfl dX0_undo_29 rfl).trans (amS4 (Nat.le_of_ble_eq_true rfl) (Nat.le_of_ble_eq_true rfl) (Nat.le_of_ble_eq_true rfl) (Nat.le_of_ble_eq_true rfl))
theorem wX0_undo_32 {ret F n h} {v0 st x a} : eX0_undo ret F (n + 1) 32 [v0] (.int x :: .ref a :: st) h 0 0 = (6 ≤ (h.1 a).1 ∧ (h.1 a).1 ≤ 8 ∧ vp_in x (h.1 a).2 ∧ eX0_undo ret F n 33 [v0] (va_rf (h.2.2.2.1 a x.toNatClampNeg) :: st) h 0 0) := (amWp_dec rfl dX0_undo_32 rfl).trans rfl
theorem wX0_undo_33 {ret F n h} {v0 x1 x0} : eX0_undo ret F (n + 1) 33 [v0] (.ref x1 :: .ref x0 :: []) h 0 0 = (h.1 x0 = (0, 1) ∧ tX1_takeFrom [.ref x0, .ref x1] h (fun v h => eX0_undo ret F n 36 [v0] (v.toList ++ ([])) h 0 0)) := (amWp_dec rfl dX0_undo_33 rfl).trans (amS4 (Nat.le_of_ble_eq_true rfl) (Nat.le_of_ble_eq_true rfl) (Nat.le_of_ble_eq_true rfl) (Nat.le_of_ble_eq_true rfl))
theorem wX0_undo_36 {ret F n ls st h k z} : eX0_undo ret F (n + 1) 36 ls st h k z = F 36 ls st h k z := amWp_cut rfl
theorem uX0_undo_36 {ret F n h} {v0 st} : sX0_undo ret F n 36 [v0] (st) h 0 0 = (amIsR v0 ∧ eX0_undo ret F n 37 [v0] (v0 :: st) h 0 0) := (amWs_dec dX0_undo_36 rfl).trans rfl
theorem wX0_undo_37 {ret F n h} {v0 a} : eX0_undo ret F (n + 1) 37 [v0] (.ref a :: []) h 0 0 = (h.1 a = (0, 0) ∧ eX0_undo ret F n 40 [v0] (.int (h.2.1 a 15) :: []) h 0 0) := (amWp_dec rfl dX0_undo_37 rfl).trans (amS4 (Nat.le_of_ble_eq_true rfl) (Nat.le_of_ble_eq_true rfl) (Nat.le_of_ble_eq_true rfl) (Nat.le_of_ble_eq_true rfl))
theorem wX0_undo_40 {ret F n h} {v0 x} : eX0_undo ret F (n + 1) 40 [v0] ([.int x]) h 0 0 = (ret (some (.int x)) h 0 0) := (amWp_dec rfl dX0_undo_40 rfl).trans (amTrue ⟨_, rfl, rfl⟩)
theorem evX0_undo (l : Launch) (G : amG) : ∀ pc S i sz, amLk rX0_undo pc = some S → decode cX0_undo pc = .ok (i, sz) → amSiteP pc G l yX0_undo.cls yX0_undo.name yX0_undo.desc (amRm 3 0 0) i sz S.1 S.2.1 S.2.2.1 S.2.2.2 := amLk_ok (by
  refine List.forall_mem_cons.mpr ⟨⟨_, _, dX0_undo_1, amSite.P (amSiteGet ⟨_, rfl, by decide, Or.inl q316⟩)⟩, ?_⟩
  refine List.forall_mem_cons.mpr ⟨⟨_, _, dX0_undo_12, amSite.P (amSiteGet ⟨_, rfl, by decide, Or.inl q316⟩)⟩, ?_⟩
  refine List.forall_mem_cons.mpr ⟨⟨_, _, dX0_undo_17, amSite.P (amSitePut ⟨_, rfl, by decide, Or.inl q316⟩ (fun q h => by cases h; rfl))⟩, ?_⟩
  refine List.forall_mem_cons.mpr ⟨⟨_, _, dX0_undo_21, amSite.P (amSiteGet ⟨_, rfl, by decide, Or.inl q301⟩)⟩, ?_⟩
  refine List.forall_mem_cons.mpr ⟨⟨_, _, dX0_undo_25, amSite.P (amSiteGet ⟨_, rfl, by decide, Or.inl q315⟩)⟩, ?_⟩
  refine List.forall_mem_cons.mpr ⟨⟨_, _, dX0_undo_29, amSite.P (amSiteGet ⟨_, rfl, by decide, Or.inl q316⟩)⟩, ?_⟩
  refine List.forall_mem_cons.mpr ⟨⟨_, _, dX0_undo_33, amSite.P (amSiteV (C := RX1) (metX1_takeFrom l G) rfl (by decide) (by decide) (lw_V q886 q887 q888 q87 q889) ⟨_, rfl, rfl⟩ ⟨rfl, by decide +kernel, by decide +kernel, by decide +kernel⟩)⟩, ?_⟩
  refine List.forall_mem_cons.mpr ⟨⟨_, _, dX0_undo_37, amSite.P (amSiteGet ⟨_, rfl, by decide, Or.inl q316⟩)⟩, ?_⟩
  exact fun _ h => absurd h List.not_mem_nil)
theorem goX0_undo {ret F} (hF : amCld cX0_undo kX0_undo (amLk rX0_undo) (some .int) 0 0 ret F) (n : Nat) {pc ls st h k z} (q : sX0_undo ret F n pc ls st h k z) : F pc ls st h k z := hF.1 n pc ls st h k z q
theorem metX0_undo (l : Launch) (G : amG) : amMet l G yX0_undo (ws_ yX0_undo cX0_undo 1 (some .int)) 3 0 0 tX0_undo := by
  refine amMet_of (cut := kX0_undo) (by decide +kernel) (evX0_undo l G) ?_
  intro as h K hT
  match as, hT with
  | [.ref a], ⟨X, e1, w, hK⟩ =>
  refine ⟨Nat.le_of_ble_eq_true rfl, fun F hF => ?_⟩
  show F 0 [.ref a] [] h 0 0
  obtain ⟨a, rfl⟩ : ∃ i : Nat, i = a := ⟨_, rfl⟩
  subst e1
  have hR := w.1.1
  have hP := w.2.1
  have hN := w.1.2.2.2
  have key := hK
  obtain ⟨u6, hu, σ, s6, si, sr, sU⟩ := w.2.2.2.1
  by_cases e : X.2.1.length = 0
  · rw [undoR, if_pos e] at key
    rw [e] at hu
    refine goX0_undo hF 60 ?_
    simp (disch := omega) only [wX0_undo_0, uX0_undo_0, wX0_undo_1, wX0_undo_4, wX0_undo_7, wX0_undo_9, wX0_undo_10, wX0_undo_11, wX0_undo_12, wX0_undo_15, wX0_undo_16, wX0_undo_17, wX0_undo_20, wX0_undo_21, wX0_undo_24, wX0_undo_25, wX0_undo_28, wX0_undo_29, wX0_undo_32, wX0_undo_33, wX0_undo_36, uX0_undo_36, wX0_undo_37, wX0_undo_40, amSI_1, amSI_2, amSI_3, amSI_s, amU_at, amIsR_ref, amIsR_null, amIsR_rf, amRf_some, amRf_none, amClr_int, amClr_ref, amClr_null, amClr_long, amClr_ra, amClr_rf, amFit_int, amFit_oref, amFit_aref, amFit_onull, amFit_anull, amOptSome, amOptNone, List.cons_append, List.nil_append, true_and, and_true, true_implies, not_true_eq_false, not_false_eq_true, false_implies, and_self, Nat.add_zero, Nat.zero_add, ne_eq, Prod.mk.injEq, amC01_0, amC01_1, amC01_nb, amNb0, amNb1, amTcpI_d, Nat.reduceLeDiff, Nat.reduceAdd, Nat.reduceSub, Nat.reduceEqDiff, Nat.le_refl, amN0le, hR.s, hR.r, hu, amLeI, amLtI, amEqI, amLe0, amGt0, amEq0, amNotPosI, amGe0, amVI, amCl_nI, amAdd, amSub, amMul]
    exact amRet.of (by decide) (by decide) (key h (rsFr.rf h) w)
  · rw [undoR, if_neg e] at key
    have rv := sr (X.2.1.length - 1) (by omega)
    have sv := s6 (X.2.1.length - 1) (by omega)
    have hat := (hP _ sv).1
    have hs := sU (X.2.1.length - 1) (by omega)
    refine goX0_undo hF 60 ?_
    simp (disch := omega) only [wX0_undo_0, uX0_undo_0, wX0_undo_1, wX0_undo_4, wX0_undo_7, wX0_undo_9, wX0_undo_10, wX0_undo_11, wX0_undo_12, wX0_undo_15, wX0_undo_16, wX0_undo_17, wX0_undo_20, wX0_undo_21, wX0_undo_24, wX0_undo_25, wX0_undo_28, wX0_undo_29, wX0_undo_32, wX0_undo_33, wX0_undo_36, uX0_undo_36, wX0_undo_37, wX0_undo_40, amSI_1, amSI_2, amSI_3, amSI_s, amU_at, amIsR_ref, amIsR_null, amIsR_rf, amRf_some, amRf_none, amClr_int, amClr_ref, amClr_null, amClr_long, amClr_ra, amClr_rf, amFit_int, amFit_oref, amFit_aref, amFit_onull, amFit_anull, amOptSome, amOptNone, List.cons_append, List.nil_append, true_and, and_true, true_implies, not_true_eq_false, not_false_eq_true, false_implies, and_self, Nat.add_zero, Nat.zero_add, ne_eq, Prod.mk.injEq, amC01_0, amC01_1, amC01_nb, amNb0, amNb1, amTcpI_d, Nat.reduceLeDiff, Nat.reduceAdd, Nat.reduceSub, Nat.reduceEqDiff, Nat.le_refl, amN0le, hR.s, hR.r, hu, amLeI, amLtI, amEqI, amLe0, amGt0, amEq0, amNotPosI, amGe0, amVI, amCl_nI, amAdd, amSub, amMul, e, rv, tX1_takeFrom_d]
    refine ⟨X.2.1.getD (X.2.1.length - 1) HS0, hR.now, hat, Or.inl (by omega), ?_, fun m' p1 p2 => ?_⟩
    · exact hs.kept (fun i h1 h2 => by simp (disch := omega) only [amU_at, amU_ne, amU_nj, amU_neR, up_ne, up_at, amSI_2])
    · have m24 : m' 24 15 = nI (X.2.1.length - 1) := by
        rw [p2 24 (by decide)]
        simp (disch := omega) only [amU_at, amU_ne, amU_nj, amU_neR, up_ne, up_at, amSI_2]
      have mO : ∀ i : Nat, i ≠ 24 → (i < 25 ∨ 30 ≤ i) → m' i = h.2.1 i := fun i h1 h2 => by
        rw [p2 i (by omega)]
        simp (disch := omega) only [amU_at, amU_ne, amU_nj, amU_neR, up_ne, up_at, amSI_2]
      have f : opFr h (amSI h m') := opFr.si (fun i h1 h2 _ _ => mO i h1 h2) (fun j hj => by
        rw [p2 24 (by decide)]
        simp (disch := omega) only [amU_at, amU_ne, amU_nj, amU_neR, up_ne, up_at, amSI_2])
      have hne : X.2.1 ≠ [] := fun z => e (by rw [z]; rfl)
      have lU : X.2.1.dropLast.length = X.2.1.length - 1 := List.length_dropLast
      have g2 := w.op f (S := X.2.1.getD (X.2.1.length - 1) HS0) (U := X.2.1.dropLast) p1 (w.2.2.2.2.1 _ (getLast_eq hne)) ⟨by omega, by rw [lU]; exact m24, σ, s6, si, sr, fun k hk => by
        rw [lU] at hk
        have e2 : X.2.1.dropLast.getD k HS0 = X.2.1.getD k HS0 := by
          rw [List.getD_eq_getElem?_getD, List.getElem?_dropLast, if_pos hk, List.getD_eq_getElem?_getD]
        rw [e2]
        have := s6 k (by omega)
        exact (sU k (by omega)).kept (fun i h1 h2 => mO i (by omega) (by omega))⟩ (fun S hS => w.2.2.2.2.1 _ ((List.dropLast_subset _) hS))
      have key := key _ (f.rs hN) g2
      refine goX0_undo hF 60 ?_
      simp (disch := omega) only [wX0_undo_0, uX0_undo_0, wX0_undo_1, wX0_undo_4, wX0_undo_7, wX0_undo_9, wX0_undo_10, wX0_undo_11, wX0_undo_12, wX0_undo_15, wX0_undo_16, wX0_undo_17, wX0_undo_20, wX0_undo_21, wX0_undo_24, wX0_undo_25, wX0_undo_28, wX0_undo_29, wX0_undo_32, wX0_undo_33, wX0_undo_36, uX0_undo_36, wX0_undo_37, wX0_undo_40, amSI_1, amSI_2, amSI_3, amSI_s, amU_at, amIsR_ref, amIsR_null, amIsR_rf, amRf_some, amRf_none, amClr_int, amClr_ref, amClr_null, amClr_long, amClr_ra, amClr_rf, amFit_int, amFit_oref, amFit_aref, amFit_onull, amFit_anull, amOptSome, amOptNone, List.cons_append, List.nil_append, true_and, and_true, true_implies, not_true_eq_false, not_false_eq_true, false_implies, and_self, Nat.add_zero, Nat.zero_add, ne_eq, Prod.mk.injEq, amC01_0, amC01_1, amC01_nb, amNb0, amNb1, amTcpI_d, Nat.reduceLeDiff, Nat.reduceAdd, Nat.reduceSub, Nat.reduceEqDiff, Nat.le_refl, amN0le, hR.s, hR.r, m24]
      exact amRet.of (by decide) (by decide) key
theorem tX0_undo_d {a : Nat} {h : amH} {K : Option Value → amH → Prop} : tX0_undo [.ref a] h K = ∃ X : XS, a = (24 : Nat) ∧ RsW h X ∧ ∀ h', rsFr h h' → RsW h' (undoR X).1 → K (some (.int (undoR X).2)) h' := rfl
def seedR (X : XS) (x : Int32) : XS × Int32 := if x < 0 then (X, -1) else ((X.1.setD x.toNatClampNeg, X.2), nI X.1.draw)
def tX0_seed : amT := fun as h K => match as with
  | [.ref a, .int x] => ∃ X : XS, a = (24 : Nat) ∧ RsW h X ∧ ∀ h', rsFr h h' → RsW h' (seedR X x).1 → K (some (.int (seedR X x).2)) h'
  | _ => False
/-! ReadingStages.seed(I)I -/
def kX0_seed : Nat → Bool := fun pc => false
def rX0_seed : List (Nat × amS) := [(7, 1, 0, 0, amTget 0 0), (10, 1, 0, 0, amTget 1 7), (15, 1, 0, 0, amTget 0 0), (19, 2, 0, 0, amTput 1 7)]
def eX0_seed (ret : Option Value → amH → Nat → Nat → Prop) (F : amX) : Nat → amX := amWp cX0_seed kX0_seed (amLk rX0_seed) (some .int) 0 0 ret F
def sX0_seed (ret : Option Value → amH → Nat → Nat → Prop) (F : amX) : Nat → amX := amWs cX0_seed kX0_seed (amLk rX0_seed) (some .int) 0 0 ret F
theorem wX0_seed_0 {ret F n h} {v0 v2 st x} : eX0_seed ret F (n + 1) 0 [v0, .int x, v2] (st) h 0 0 = (eX0_seed ret F n 1 [v0, .int x, v2] (.int x :: st) h 0 0) := (amWp_dec rfl dX0_seed_0 rfl).trans rfl
theorem uX0_seed_0 {ret F n h} {v0 v2 st x} : sX0_seed ret F n 0 [v0, .int x, v2] (st) h 0 0 = (eX0_seed ret F n 1 [v0, .int x, v2] (.int x :: st) h 0 0) := (amWs_dec dX0_seed_0 rfl).trans rfl
theorem wX0_seed_1 {ret F n h} {v0 v1 v2 st x} : eX0_seed ret F (n + 1) 1 [v0, v1, v2] (.int x :: st) h 0 0 = ((0 ≤ x → eX0_seed ret F n 6 [v0, v1, v2] (st) h 0 0) ∧ (¬ 0 ≤ x → eX0_seed ret F n 4 [v0, v1, v2] (st) h 0 0)) := (amWp_dec rfl dX0_seed_1 rfl).trans rfl
theorem wX0_seed_4 {ret F n h} {v0 v1 v2 st} : eX0_seed ret F (n + 1) 4 [v0, v1, v2] (st) h 0 0 = (eX0_seed ret F n 5 [v0, v1, v2] (.int (-1) :: st) h 0 0) := (amWp_dec rfl dX0_seed_4 rfl).trans rfl
theorem wX0_seed_5 {ret F n h} {v0 v1 v2 x} : eX0_seed ret F (n + 1) 5 [v0, v1, v2] ([.int x]) h 0 0 = (ret (some (.int x)) h 0 0) := (amWp_dec rfl dX0_seed_5 rfl).trans (amTrue ⟨_, rfl, rfl⟩)
theorem wX0_seed_6 {ret F n h} {v0 v1 v2 st} : eX0_seed ret F (n + 1) 6 [v0, v1, v2] (st) h 0 0 = (amIsR v0 ∧ eX0_seed ret F n 7 [v0, v1, v2] (v0 :: st) h 0 0) := (amWp_dec rfl dX0_seed_6 rfl).trans rfl
theorem wX0_seed_7 {ret F n h} {v0 v1 v2 a} : eX0_seed ret F (n + 1) 7 [v0, v1, v2] (.ref a :: []) h 0 0 = (h.1 a = (0, 0) ∧ eX0_seed ret F n 10 [v0, v1, v2] (va_rf (h.2.2.2.1 a 0) :: []) h 0 0) := (amWp_dec rfl dX0_seed_7 rfl).trans (amS4 (Nat.le_of_ble_eq_true rfl) (Nat.le_of_ble_eq_true rfl) (Nat.le_of_ble_eq_true rfl) (Nat.le_of_ble_eq_true rfl))
theorem wX0_seed_10 {ret F n h} {v0 v1 v2 a} : eX0_seed ret F (n + 1) 10 [v0, v1, v2] (.ref a :: []) h 0 0 = (h.1 a = (0, 1) ∧ eX0_seed ret F n 13 [v0, v1, v2] (.int (h.2.1 a 7) :: []) h 0 0) := (amWp_dec rfl dX0_seed_10 rfl).trans (amS4 (Nat.le_of_ble_eq_true rfl) (Nat.le_of_ble_eq_true rfl) (Nat.le_of_ble_eq_true rfl) (Nat.le_of_ble_eq_true rfl))
theorem wX0_seed_13 {ret F n h} {v0 v1 v2 st x} : eX0_seed ret F (n + 1) 13 [v0, v1, v2] (.int x :: st) h 0 0 = (eX0_seed ret F n 14 [v0, amClr v1, .int x] (st) h 0 0) := (amWp_dec rfl dX0_seed_13 rfl).trans (amTrue (Nat.le_of_ble_eq_true rfl))
theorem wX0_seed_14 {ret F n h} {v0 v1 v2 st} : eX0_seed ret F (n + 1) 14 [v0, v1, v2] (st) h 0 0 = (amIsR v0 ∧ eX0_seed ret F n 15 [v0, v1, v2] (v0 :: st) h 0 0) := (amWp_dec rfl dX0_seed_14 rfl).trans rfl
theorem wX0_seed_15 {ret F n h} {v0 v1 v2 a} : eX0_seed ret F (n + 1) 15 [v0, v1, v2] (.ref a :: []) h 0 0 = (h.1 a = (0, 0) ∧ eX0_seed ret F n 18 [v0, v1, v2] (va_rf (h.2.2.2.1 a 0) :: []) h 0 0) := (amWp_dec rfl dX0_seed_15 rfl).trans (amS4 (Nat.le_of_ble_eq_true rfl) (Nat.le_of_ble_eq_true rfl) (Nat.le_of_ble_eq_true rfl) (Nat.le_of_ble_eq_true rfl))
theorem wX0_seed_18 {ret F n h} {v0 v2 st x} : eX0_seed ret F (n + 1) 18 [v0, .int x, v2] (st) h 0 0 = (eX0_seed ret F n 19 [v0, .int x, v2] (.int x :: st) h 0 0) := (amWp_dec rfl dX0_seed_18 rfl).trans rfl
theorem wX0_seed_19 {ret F n h} {v0 v1 v2 x a} : eX0_seed ret F (n + 1) 19 [v0, v1, v2] (.int x :: .ref a :: []) h 0 0 = (h.1 a = (0, 1) ∧ amN0 ≤ a ∧ amFit .int (.int x) ∧ eX0_seed ret F n 22 [v0, v1, v2] ([]) (amSI h (amU h.2.1 a 7 x)) 0 0) := (amWp_dec rfl dX0_seed_19 rfl).trans (amS4 (Nat.le_of_ble_eq_true rfl) (Nat.le_of_ble_eq_true rfl) (Nat.le_of_ble_eq_true rfl) (Nat.le_of_ble_eq_true rfl))
theorem wX0_seed_22 {ret F n h} {v0 v1 st x} : eX0_seed ret F (n + 1) 22 [v0, v1, .int x] (st) h 0 0 = (eX0_seed ret F n 23 [v0, v1, .int x] (.int x :: st) h 0 0) := (amWp_dec rfl dX0_seed_22 rfl).trans rfl
theorem wX0_seed_23 {ret F n h} {v0 v1 v2 x} : eX0_seed ret F (n + 1) 23 [v0, v1, v2] ([.int x]) h 0 0 = (ret (some (.int x)) h 0 0) := (amWp_dec rfl dX0_seed_23 rfl).trans (amTrue ⟨_, rfl, rfl⟩)
theorem evX0_seed (l : Launch) (G : amG) : ∀ pc S i sz, amLk rX0_seed pc = some S → decode cX0_seed pc = .ok (i, sz) → amSiteP pc G l yX0_seed.cls yX0_seed.name yX0_seed.desc (amRm 1 0 0) i sz S.1 S.2.1 S.2.2.1 S.2.2.2 := amLk_ok (by
  refine List.forall_mem_cons.mpr ⟨⟨_, _, dX0_seed_7, amSite.P (amSiteGet ⟨_, rfl, by decide, Or.inl q301⟩)⟩, ?_⟩
  refine List.forall_mem_cons.mpr ⟨⟨_, _, dX0_seed_10, amSite.P (amSiteGet ⟨_, rfl, by decide, Or.inr ⟨"ReadingStages", List.mem_of_getElem? (i := 9) rfl⟩⟩)⟩, ?_⟩
  refine List.forall_mem_cons.mpr ⟨⟨_, _, dX0_seed_15, amSite.P (amSiteGet ⟨_, rfl, by decide, Or.inl q301⟩)⟩, ?_⟩
  refine List.forall_mem_cons.mpr ⟨⟨_, _, dX0_seed_19, amSite.P (amSitePut ⟨_, rfl, by decide, Or.inr ⟨"ReadingStages", List.mem_of_getElem? (i := 9) rfl⟩⟩ (fun q h => by cases h; rfl))⟩, ?_⟩
  exact fun _ h => absurd h List.not_mem_nil)
theorem goX0_seed {ret F} (hF : amCld cX0_seed kX0_seed (amLk rX0_seed) (some .int) 0 0 ret F) (n : Nat) {pc ls st h k z} (q : sX0_seed ret F n pc ls st h k z) : F pc ls st h k z := hF.1 n pc ls st h k z q
theorem metX0_seed (l : Launch) (G : amG) : amMet l G yX0_seed (ws_ yX0_seed cX0_seed 3 (some .int)) 1 0 0 tX0_seed := by
  refine amMet_of (cut := kX0_seed) (by decide +kernel) (evX0_seed l G) ?_
  intro as h K hT
  match as, hT with
  | [.ref a, .int x], ⟨X, e1, w, hK⟩ =>
  refine ⟨Nat.le_of_ble_eq_true rfl, fun F hF => ?_⟩
  show F 0 [.ref a, .int x, .retAddr 0] [] h 0 0
  obtain ⟨a, rfl⟩ : ∃ i : Nat, i = a := ⟨_, rfl⟩
  subst e1
  have hR := w.1.1
  have hS := w.1.2.1
  have hN := w.1.2.2.2
  have key := hK
  have dr := hS.draw
  by_cases hx : x < 0
  · rw [seedR, if_pos hx] at key
    have e : (0 ≤ x) = False := eq_false (fun z => by
      have z1 := Int32.le_iff_toInt_le.mp z
      have z2 := Int32.lt_iff_toInt_lt.mp hx
      have z0 : (0 : Int32).toInt = 0 := by decide
      omega)
    refine goX0_seed hF 60 ?_
    simp (disch := omega) only [wX0_seed_0, uX0_seed_0, wX0_seed_1, wX0_seed_4, wX0_seed_5, wX0_seed_6, wX0_seed_7, wX0_seed_10, wX0_seed_13, wX0_seed_14, wX0_seed_15, wX0_seed_18, wX0_seed_19, wX0_seed_22, wX0_seed_23, amSI_1, amSI_2, amSI_3, amSI_s, amU_at, amIsR_ref, amIsR_null, amIsR_rf, amRf_some, amRf_none, amClr_int, amClr_ref, amClr_null, amClr_long, amClr_ra, amClr_rf, amFit_int, amFit_oref, amFit_aref, amFit_onull, amFit_anull, amOptSome, amOptNone, List.cons_append, List.nil_append, true_and, and_true, true_implies, not_true_eq_false, not_false_eq_true, false_implies, and_self, Nat.add_zero, Nat.zero_add, ne_eq, Prod.mk.injEq, amC01_0, amC01_1, amC01_nb, amNb0, amNb1, amTcpI_d, Nat.reduceLeDiff, Nat.reduceAdd, Nat.reduceSub, Nat.reduceEqDiff, Nat.le_refl, amN0le, hR.s, hR.r, e]
    exact amRet.of (by decide) (by decide) (key h (rsFr.rf h) w)
  · rw [seedR, if_neg hx] at key
    obtain ⟨k, hk, rfl⟩ : ∃ k : Nat, k < 2147483648 ∧ x = nI k := ⟨x.toNatClampNeg, clamp_lt x, clamp_id hx⟩
    rw [amCl_nI hk] at key
    have fr : hsFr h.2.1 (amU h.2.1 25 7 (nI k)) 25 := hsFr.u (by decide) (by decide)
    have g2 := w.op (opFr.hs fr) (hS.setD (v := k)) (w.1.2.2.1.setD hk) (w.2.2.2.1.mv (by show amU h.2.1 25 7 (nI k) 24 15 = _; rw [fr 24 (by decide)]) rfl (fun i hi => fr i (by unfold pastC at hi; omega))) w.2.2.2.2.1
    have key := key _ ((opFr.hs fr).rs hN) g2
    refine goX0_seed hF 60 ?_
    simp (disch := omega) only [wX0_seed_0, uX0_seed_0, wX0_seed_1, wX0_seed_4, wX0_seed_5, wX0_seed_6, wX0_seed_7, wX0_seed_10, wX0_seed_13, wX0_seed_14, wX0_seed_15, wX0_seed_18, wX0_seed_19, wX0_seed_22, wX0_seed_23, amSI_1, amSI_2, amSI_3, amSI_s, amU_at, amIsR_ref, amIsR_null, amIsR_rf, amRf_some, amRf_none, amClr_int, amClr_ref, amClr_null, amClr_long, amClr_ra, amClr_rf, amFit_int, amFit_oref, amFit_aref, amFit_onull, amFit_anull, amOptSome, amOptNone, List.cons_append, List.nil_append, true_and, and_true, true_implies, not_true_eq_false, not_false_eq_true, false_implies, and_self, Nat.add_zero, Nat.zero_add, ne_eq, Prod.mk.injEq, amC01_0, amC01_1, amC01_nb, amNb0, amNb1, amTcpI_d, Nat.reduceLeDiff, Nat.reduceAdd, Nat.reduceSub, Nat.reduceEqDiff, Nat.le_refl, amN0le, hR.s, hR.r, amLeI, amLtI, amEqI, amLe0, amGt0, amEq0, amNotPosI, amGe0, amVI, amCl_nI, amAdd, amSub, amMul, dr]
    exact amRet.of (by decide) (by decide) key
theorem tX0_seed_d {a : Nat} {x : Int32} {h : amH} {K : Option Value → amH → Prop} : tX0_seed [.ref a, .int x] h K = ∃ X : XS, a = (24 : Nat) ∧ RsW h X ∧ ∀ h', rsFr h h' → RsW h' (seedR X x).1 → K (some (.int (seedR X x).2)) h' := rfl
