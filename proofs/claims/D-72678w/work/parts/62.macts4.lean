/-! the reference's acts -/
set_option maxRecDepth 100000
def stlR (S : HS) (w : Int32) : HS × Int32 := if ¬ (lN 0 ≤ w.toInt64 ∧ w.toInt64 ≤ lN 1) then (S, -1) else if S.ord.length = 0 ∨ ((settleL S w).length = S.ord.length ∧ numL (settleL S w) = numL S.ord) then (S, -2) else (S.setO (settleL S w), nI (numL (settleL S w)))
def tX6_settles : amT := fun as h K => match as with
  | [.ref t, .int w] => ∃ S : HS, t = (124 : Nat) ∧ mdSys h S ∧ ∀ m', RwIs m' 125 0 (stlR S w).1 → maFr h.2.1 m' → K (some (.int (stlR S w).2)) (amSI h m')
  | _ => False
/-! ReadingStagesModel.settles(I)I -/
def kX6_settles : Nat → Bool := fun pc => pc == 16 || pc == 31 || pc == 43 || pc == 48 || pc == 78
def rX6_settles : List (Nat × amS) := [(4, 3, 0, 0, tX6_in), (13, 1, 0, 0, (amRecv 6 tX6_takesOrder)), (17, 1, 0, 0, (amRecv 6 tX6_number)), (28, 1, 0, 0, (amRecv 6 tX6_laysBest)), (32, 1, 0, 0, amTget 6 19), (40, 1, 0, 0, (amRecv 6 tX6_grows)), (44, 1, 0, 0, (amRecv 6 tX6_number)), (49, 1, 0, 0, amTget 6 0), (69, 1, 0, 0, amTget 6 0), (84, 1, 0, 0, amTget 6 0)]
def eX6_settles (ret : Option Value → amH → Nat → Nat → Prop) (F : amX) : Nat → amX := amWp cX6_settles kX6_settles (amLk rX6_settles) (some .int) 0 0 ret F
def sX6_settles (ret : Option Value → amH → Nat → Nat → Prop) (F : amX) : Nat → amX := amWs cX6_settles kX6_settles (amLk rX6_settles) (some .int) 0 0 ret F
theorem wX6_settles_0 {ret F n h} {v0 v2 v3 v4 v5 st x} : eX6_settles ret F (n + 1) 0 [v0, .int x, v2, v3, v4, v5] (st) h 0 0 = (eX6_settles ret F n 1 [v0, .int x, v2, v3, v4, v5] (.int x :: st) h 0 0) := (amWp_dec rfl dX6_settles_0 rfl).trans rfl
theorem uX6_settles_0 {ret F n h} {v0 v2 v3 v4 v5 st x} : sX6_settles ret F n 0 [v0, .int x, v2, v3, v4, v5] (st) h 0 0 = (eX6_settles ret F n 1 [v0, .int x, v2, v3, v4, v5] (.int x :: st) h 0 0) := (amWs_dec dX6_settles_0 rfl).trans rfl
theorem wX6_settles_1 {ret F n h} {v0 v1 v2 v3 v4 v5 st x} : eX6_settles ret F (n + 1) 1 [v0, v1, v2, v3, v4, v5] (.int x :: st) h 0 0 = (eX6_settles ret F n 2 [v0, v1, v2, v3, v4, v5] (.long x.toInt64 :: st) h 0 0) := (amWp_dec rfl dX6_settles_1 rfl).trans rfl
theorem wX6_settles_2 {ret F n h} {v0 v1 v2 v3 v4 v5 st} : eX6_settles ret F (n + 1) 2 [v0, v1, v2, v3, v4, v5] (st) h 0 0 = (eX6_settles ret F n 3 [v0, v1, v2, v3, v4, v5] (.long (lN 0) :: st) h 0 0) := (amWp_dec rfl dX6_settles_2 rfl).trans rfl
theorem wX6_settles_3 {ret F n h} {v0 v1 v2 v3 v4 v5 st} : eX6_settles ret F (n + 1) 3 [v0, v1, v2, v3, v4, v5] (st) h 0 0 = (eX6_settles ret F n 4 [v0, v1, v2, v3, v4, v5] (.long (lN 1) :: st) h 0 0) := (amWp_dec rfl dX6_settles_3 rfl).trans rfl
theorem wX6_settles_4 {ret F n h} {v0 v1 v2 v3 v4 v5 x2 x1 x0} : eX6_settles ret F (n + 1) 4 [v0, v1, v2, v3, v4, v5] (.long x2 :: .long x1 :: .long x0 :: []) h 0 0 = (tX6_in [.long x0, .long x1, .long x2] h (fun v h => eX6_settles ret F n 7 [v0, v1, v2, v3, v4, v5] (v.toList ++ ([])) h 0 0)) := (amWp_dec rfl dX6_settles_4 rfl).trans (amS4 (Nat.le_of_ble_eq_true rfl) (Nat.le_of_ble_eq_true rfl) (Nat.le_of_ble_eq_true rfl) (Nat.le_of_ble_eq_true rfl))
theorem wX6_settles_7 {ret F n h} {v0 v1 v2 v3 v4 v5 st x} : eX6_settles ret F (n + 1) 7 [v0, v1, v2, v3, v4, v5] (.int x :: st) h 0 0 = ((¬ x = 0 → eX6_settles ret F n 12 [v0, v1, v2, v3, v4, v5] (st) h 0 0) ∧ (x = 0 → eX6_settles ret F n 10 [v0, v1, v2, v3, v4, v5] (st) h 0 0)) := (amWp_dec rfl dX6_settles_7 rfl).trans rfl
theorem wX6_settles_10 {ret F n h} {v0 v1 v2 v3 v4 v5 st} : eX6_settles ret F (n + 1) 10 [v0, v1, v2, v3, v4, v5] (st) h 0 0 = (eX6_settles ret F n 11 [v0, v1, v2, v3, v4, v5] (.int (-1) :: st) h 0 0) := (amWp_dec rfl dX6_settles_10 rfl).trans rfl
theorem wX6_settles_11 {ret F n h} {v0 v1 v2 v3 v4 v5 x} : eX6_settles ret F (n + 1) 11 [v0, v1, v2, v3, v4, v5] ([.int x]) h 0 0 = (ret (some (.int x)) h 0 0) := (amWp_dec rfl dX6_settles_11 rfl).trans (amTrue ⟨_, rfl, rfl⟩)
theorem wX6_settles_12 {ret F n h} {v0 v1 v2 v3 v4 v5 st} : eX6_settles ret F (n + 1) 12 [v0, v1, v2, v3, v4, v5] (st) h 0 0 = (amIsR v0 ∧ eX6_settles ret F n 13 [v0, v1, v2, v3, v4, v5] (v0 :: st) h 0 0) := (amWp_dec rfl dX6_settles_12 rfl).trans rfl
theorem wX6_settles_13 {ret F n h} {v0 v1 v2 v3 v4 v5 x0} : eX6_settles ret F (n + 1) 13 [v0, v1, v2, v3, v4, v5] (.ref x0 :: []) h 0 0 = (h.1 x0 = (0, 6) ∧ tX6_takesOrder [.ref x0] h (fun v h => eX6_settles ret F n 16 [v0, v1, v2, v3, v4, v5] (v.toList ++ ([])) h 0 0)) := (amWp_dec rfl dX6_settles_13 rfl).trans (amS4 (Nat.le_of_ble_eq_true rfl) (Nat.le_of_ble_eq_true rfl) (Nat.le_of_ble_eq_true rfl) (Nat.le_of_ble_eq_true rfl))
theorem wX6_settles_16 {ret F n ls st h k z} : eX6_settles ret F (n + 1) 16 ls st h k z = F 16 ls st h k z := amWp_cut rfl
theorem uX6_settles_16 {ret F n h} {v0 v1 v2 v3 v4 v5 st} : sX6_settles ret F n 16 [v0, v1, v2, v3, v4, v5] (st) h 0 0 = (amIsR v0 ∧ eX6_settles ret F n 17 [v0, v1, v2, v3, v4, v5] (v0 :: st) h 0 0) := (amWs_dec dX6_settles_16 rfl).trans rfl
theorem wX6_settles_17 {ret F n h} {v0 v1 v2 v3 v4 v5 x0} : eX6_settles ret F (n + 1) 17 [v0, v1, v2, v3, v4, v5] (.ref x0 :: []) h 0 0 = (h.1 x0 = (0, 6) ∧ tX6_number [.ref x0] h (fun v h => eX6_settles ret F n 20 [v0, v1, v2, v3, v4, v5] (v.toList ++ ([])) h 0 0)) := (amWp_dec rfl dX6_settles_17 rfl).trans (amS4 (Nat.le_of_ble_eq_true rfl) (Nat.le_of_ble_eq_true rfl) (Nat.le_of_ble_eq_true rfl) (Nat.le_of_ble_eq_true rfl))
theorem wX6_settles_20 {ret F n h} {v0 v1 v2 v3 v4 v5 st x} : eX6_settles ret F (n + 1) 20 [v0, v1, v2, v3, v4, v5] (.int x :: st) h 0 0 = (eX6_settles ret F n 21 [v0, amClr v1, .int x, v3, v4, v5] (st) h 0 0) := (amWp_dec rfl dX6_settles_20 rfl).trans (amTrue (Nat.le_of_ble_eq_true rfl))
theorem wX6_settles_21 {ret F n h} {v0 v1 v3 v4 v5 st x} : eX6_settles ret F (n + 1) 21 [v0, v1, .int x, v3, v4, v5] (st) h 0 0 = (eX6_settles ret F n 22 [v0, v1, .int x, v3, v4, v5] (.int x :: st) h 0 0) := (amWp_dec rfl dX6_settles_21 rfl).trans rfl
theorem wX6_settles_22 {ret F n h} {v0 v1 v2 v3 v4 v5 st x} : eX6_settles ret F (n + 1) 22 [v0, v1, v2, v3, v4, v5] (.int x :: st) h 0 0 = (eX6_settles ret F n 23 [v0, v1, amClr v2, .int x, v4, v5] (st) h 0 0) := (amWp_dec rfl dX6_settles_22 rfl).trans (amTrue (Nat.le_of_ble_eq_true rfl))
theorem wX6_settles_23 {ret F n h} {v0 v2 v3 v4 v5 st x} : eX6_settles ret F (n + 1) 23 [v0, .int x, v2, v3, v4, v5] (st) h 0 0 = (eX6_settles ret F n 24 [v0, .int x, v2, v3, v4, v5] (.int x :: st) h 0 0) := (amWp_dec rfl dX6_settles_23 rfl).trans rfl
theorem wX6_settles_24 {ret F n h} {v0 v1 v2 v3 v4 v5 st x} : eX6_settles ret F (n + 1) 24 [v0, v1, v2, v3, v4, v5] (.int x :: st) h 0 0 = ((¬ x = 0 → eX6_settles ret F n 39 [v0, v1, v2, v3, v4, v5] (st) h 0 0) ∧ (x = 0 → eX6_settles ret F n 27 [v0, v1, v2, v3, v4, v5] (st) h 0 0)) := (amWp_dec rfl dX6_settles_24 rfl).trans rfl
theorem wX6_settles_27 {ret F n h} {v0 v1 v2 v3 v4 v5 st} : eX6_settles ret F (n + 1) 27 [v0, v1, v2, v3, v4, v5] (st) h 0 0 = (amIsR v0 ∧ eX6_settles ret F n 28 [v0, v1, v2, v3, v4, v5] (v0 :: st) h 0 0) := (amWp_dec rfl dX6_settles_27 rfl).trans rfl
theorem wX6_settles_28 {ret F n h} {v0 v1 v2 v3 v4 v5 x0} : eX6_settles ret F (n + 1) 28 [v0, v1, v2, v3, v4, v5] (.ref x0 :: []) h 0 0 = (h.1 x0 = (0, 6) ∧ tX6_laysBest [.ref x0] h (fun v h => eX6_settles ret F n 31 [v0, v1, v2, v3, v4, v5] (v.toList ++ ([])) h 0 0)) := (amWp_dec rfl dX6_settles_28 rfl).trans (amS4 (Nat.le_of_ble_eq_true rfl) (Nat.le_of_ble_eq_true rfl) (Nat.le_of_ble_eq_true rfl) (Nat.le_of_ble_eq_true rfl))
theorem wX6_settles_31 {ret F n ls st h k z} : eX6_settles ret F (n + 1) 31 ls st h k z = F 31 ls st h k z := amWp_cut rfl
theorem uX6_settles_31 {ret F n h} {v0 v1 v2 v3 v4 v5 st} : sX6_settles ret F n 31 [v0, v1, v2, v3, v4, v5] (st) h 0 0 = (amIsR v0 ∧ eX6_settles ret F n 32 [v0, v1, v2, v3, v4, v5] (v0 :: st) h 0 0) := (amWs_dec dX6_settles_31 rfl).trans rfl
theorem wX6_settles_32 {ret F n h} {v0 v1 v2 v3 v4 v5 a} : eX6_settles ret F (n + 1) 32 [v0, v1, v2, v3, v4, v5] (.ref a :: []) h 0 0 = (h.1 a = (0, 6) ∧ eX6_settles ret F n 35 [v0, v1, v2, v3, v4, v5] (.int (h.2.1 a 19) :: []) h 0 0) := (amWp_dec rfl dX6_settles_32 rfl).trans (amS4 (Nat.le_of_ble_eq_true rfl) (Nat.le_of_ble_eq_true rfl) (Nat.le_of_ble_eq_true rfl) (Nat.le_of_ble_eq_true rfl))
theorem wX6_settles_35 {ret F n h} {v0 v1 v2 v3 v4 v5 st x} : eX6_settles ret F (n + 1) 35 [v0, v1, v2, v3, v4, v5] (.int x :: st) h 0 0 = (eX6_settles ret F n 36 [v0, v1, amClr v2, .int x, v4, v5] (st) h 0 0) := (amWp_dec rfl dX6_settles_35 rfl).trans (amTrue (Nat.le_of_ble_eq_true rfl))
theorem wX6_settles_36 {ret F n h} {v0 v1 v2 v3 v4 v5 st} : eX6_settles ret F (n + 1) 36 [v0, v1, v2, v3, v4, v5] (st) h 0 0 = (eX6_settles ret F n 48 [v0, v1, v2, v3, v4, v5] (st) h 0 0) := (amWp_dec rfl dX6_settles_36 rfl).trans rfl
theorem wX6_settles_39 {ret F n h} {v0 v1 v2 v3 v4 v5 st} : eX6_settles ret F (n + 1) 39 [v0, v1, v2, v3, v4, v5] (st) h 0 0 = (amIsR v0 ∧ eX6_settles ret F n 40 [v0, v1, v2, v3, v4, v5] (v0 :: st) h 0 0) := (amWp_dec rfl dX6_settles_39 rfl).trans rfl
theorem wX6_settles_40 {ret F n h} {v0 v1 v2 v3 v4 v5 x0} : eX6_settles ret F (n + 1) 40 [v0, v1, v2, v3, v4, v5] (.ref x0 :: []) h 0 0 = (h.1 x0 = (0, 6) ∧ tX6_grows [.ref x0] h (fun v h => eX6_settles ret F n 43 [v0, v1, v2, v3, v4, v5] (v.toList ++ ([])) h 0 0)) := (amWp_dec rfl dX6_settles_40 rfl).trans (amS4 (Nat.le_of_ble_eq_true rfl) (Nat.le_of_ble_eq_true rfl) (Nat.le_of_ble_eq_true rfl) (Nat.le_of_ble_eq_true rfl))
theorem wX6_settles_43 {ret F n ls st h k z} : eX6_settles ret F (n + 1) 43 ls st h k z = F 43 ls st h k z := amWp_cut rfl
theorem uX6_settles_43 {ret F n h} {v0 v1 v2 v3 v4 v5 st} : sX6_settles ret F n 43 [v0, v1, v2, v3, v4, v5] (st) h 0 0 = (amIsR v0 ∧ eX6_settles ret F n 44 [v0, v1, v2, v3, v4, v5] (v0 :: st) h 0 0) := (amWs_dec dX6_settles_43 rfl).trans rfl
theorem wX6_settles_44 {ret F n h} {v0 v1 v2 v3 v4 v5 x0} : eX6_settles ret F (n + 1) 44 [v0, v1, v2, v3, v4, v5] (.ref x0 :: []) h 0 0 = (h.1 x0 = (0, 6) ∧ tX6_number [.ref x0] h (fun v h => eX6_settles ret F n 47 [v0, v1, v2, v3, v4, v5] (v.toList ++ ([])) h 0 0)) := (amWp_dec rfl dX6_settles_44 rfl).trans (amS4 (Nat.le_of_ble_eq_true rfl) (Nat.le_of_ble_eq_true rfl) (Nat.le_of_ble_eq_true rfl) (Nat.le_of_ble_eq_true rfl))
theorem wX6_settles_47 {ret F n h} {v0 v1 v2 v3 v4 v5 st x} : eX6_settles ret F (n + 1) 47 [v0, v1, v2, v3, v4, v5] (.int x :: st) h 0 0 = (eX6_settles ret F n 48 [v0, v1, amClr v2, .int x, v4, v5] (st) h 0 0) := (amWp_dec rfl dX6_settles_47 rfl).trans (amTrue (Nat.le_of_ble_eq_true rfl))
theorem wX6_settles_48 {ret F n ls st h k z} : eX6_settles ret F (n + 1) 48 ls st h k z = F 48 ls st h k z := amWp_cut rfl
theorem uX6_settles_48 {ret F n h} {v0 v1 v2 v3 v4 v5 st} : sX6_settles ret F n 48 [v0, v1, v2, v3, v4, v5] (st) h 0 0 = (amIsR v0 ∧ eX6_settles ret F n 49 [v0, v1, v2, v3, v4, v5] (v0 :: st) h 0 0) := (amWs_dec dX6_settles_48 rfl).trans rfl
theorem wX6_settles_49 {ret F n h} {v0 v1 v2 v3 v4 v5 a} : eX6_settles ret F (n + 1) 49 [v0, v1, v2, v3, v4, v5] (.ref a :: []) h 0 0 = (h.1 a = (0, 6) ∧ eX6_settles ret F n 52 [v0, v1, v2, v3, v4, v5] (va_rf (h.2.2.2.1 a 0) :: []) h 0 0) := (amWp_dec rfl dX6_settles_49 rfl).trans (amS4 (Nat.le_of_ble_eq_true rfl) (Nat.le_of_ble_eq_true rfl) (Nat.le_of_ble_eq_true rfl) (Nat.le_of_ble_eq_true rfl))
theorem wX6_settles_52 {ret F n h} {v0 v1 v2 v3 v4 v5 st} : eX6_settles ret F (n + 1) 52 [v0, v1, v2, v3, v4, v5] (st) h 0 0 = (eX6_settles ret F n 53 [v0, v1, v2, v3, v4, v5] (.int (nI 0) :: st) h 0 0) := (amWp_dec rfl dX6_settles_52 rfl).trans rfl
theorem wX6_settles_53 {ret F n h} {v0 v1 v2 v3 v4 v5 st x a} : eX6_settles ret F (n + 1) 53 [v0, v1, v2, v3, v4, v5] (.int x :: .ref a :: st) h 0 0 = ((h.1 a).1 = 1 ∧ vp_in x (h.1 a).2 ∧ eX6_settles ret F n 54 [v0, v1, v2, v3, v4, v5] (.int (h.2.1 a x.toNatClampNeg) :: st) h 0 0) := (amWp_dec rfl dX6_settles_53 rfl).trans rfl
theorem wX6_settles_54 {ret F n h} {v0 v1 v2 v3 v4 v5 st x} : eX6_settles ret F (n + 1) 54 [v0, v1, v2, v3, v4, v5] (.int x :: st) h 0 0 = ((x = 0 → eX6_settles ret F n 62 [v0, v1, v2, v3, v4, v5] (st) h 0 0) ∧ (¬ x = 0 → eX6_settles ret F n 57 [v0, v1, v2, v3, v4, v5] (st) h 0 0)) := (amWp_dec rfl dX6_settles_54 rfl).trans rfl
theorem wX6_settles_57 {ret F n h} {v0 v1 v2 v4 v5 st x} : eX6_settles ret F (n + 1) 57 [v0, v1, v2, .int x, v4, v5] (st) h 0 0 = (eX6_settles ret F n 58 [v0, v1, v2, .int x, v4, v5] (.int x :: st) h 0 0) := (amWp_dec rfl dX6_settles_57 rfl).trans rfl
theorem wX6_settles_58 {ret F n h} {v0 v1 v3 v4 v5 st x} : eX6_settles ret F (n + 1) 58 [v0, v1, .int x, v3, v4, v5] (st) h 0 0 = (eX6_settles ret F n 59 [v0, v1, .int x, v3, v4, v5] (.int x :: st) h 0 0) := (amWp_dec rfl dX6_settles_58 rfl).trans rfl
theorem wX6_settles_59 {ret F n h} {v0 v1 v2 v3 v4 v5 st y x} : eX6_settles ret F (n + 1) 59 [v0, v1, v2, v3, v4, v5] (.int y :: .int x :: st) h 0 0 = ((¬ x = y → eX6_settles ret F n 65 [v0, v1, v2, v3, v4, v5] (st) h 0 0) ∧ (x = y → eX6_settles ret F n 62 [v0, v1, v2, v3, v4, v5] (st) h 0 0)) := (amWp_dec rfl dX6_settles_59 rfl).trans rfl
theorem wX6_settles_62 {ret F n h} {v0 v1 v2 v3 v4 v5 st} : eX6_settles ret F (n + 1) 62 [v0, v1, v2, v3, v4, v5] (st) h 0 0 = (eX6_settles ret F n 64 [v0, v1, v2, v3, v4, v5] (.int (-2) :: st) h 0 0) := (amWp_dec rfl dX6_settles_62 rfl).trans rfl
theorem wX6_settles_64 {ret F n h} {v0 v1 v2 v3 v4 v5 x} : eX6_settles ret F (n + 1) 64 [v0, v1, v2, v3, v4, v5] ([.int x]) h 0 0 = (ret (some (.int x)) h 0 0) := (amWp_dec rfl dX6_settles_64 rfl).trans (amTrue ⟨_, rfl, rfl⟩)
theorem wX6_settles_65 {ret F n h} {v0 v1 v2 v4 v5 st x} : eX6_settles ret F (n + 1) 65 [v0, v1, v2, .int x, v4, v5] (st) h 0 0 = (eX6_settles ret F n 66 [v0, v1, v2, .int x, v4, v5] (.int x :: st) h 0 0) := (amWp_dec rfl dX6_settles_65 rfl).trans rfl
theorem wX6_settles_66 {ret F n h} {v0 v1 v2 v3 v4 v5 st x} : eX6_settles ret F (n + 1) 66 [v0, v1, v2, v3, v4, v5] (.int x :: st) h 0 0 = (eX6_settles ret F n 68 [v0, v1, v2, amClr v3, .int x, v5] (st) h 0 0) := (amWp_dec rfl dX6_settles_66 rfl).trans (amTrue (Nat.le_of_ble_eq_true rfl))
theorem wX6_settles_68 {ret F n h} {v0 v1 v2 v3 v4 v5 st} : eX6_settles ret F (n + 1) 68 [v0, v1, v2, v3, v4, v5] (st) h 0 0 = (amIsR v0 ∧ eX6_settles ret F n 69 [v0, v1, v2, v3, v4, v5] (v0 :: st) h 0 0) := (amWp_dec rfl dX6_settles_68 rfl).trans rfl
theorem wX6_settles_69 {ret F n h} {v0 v1 v2 v3 v4 v5 a} : eX6_settles ret F (n + 1) 69 [v0, v1, v2, v3, v4, v5] (.ref a :: []) h 0 0 = (h.1 a = (0, 6) ∧ eX6_settles ret F n 72 [v0, v1, v2, v3, v4, v5] (va_rf (h.2.2.2.1 a 0) :: []) h 0 0) := (amWp_dec rfl dX6_settles_69 rfl).trans (amS4 (Nat.le_of_ble_eq_true rfl) (Nat.le_of_ble_eq_true rfl) (Nat.le_of_ble_eq_true rfl) (Nat.le_of_ble_eq_true rfl))
theorem wX6_settles_72 {ret F n h} {v0 v1 v2 v3 v4 v5 st} : eX6_settles ret F (n + 1) 72 [v0, v1, v2, v3, v4, v5] (st) h 0 0 = (eX6_settles ret F n 73 [v0, v1, v2, v3, v4, v5] (.int (nI 0) :: st) h 0 0) := (amWp_dec rfl dX6_settles_72 rfl).trans rfl
theorem wX6_settles_73 {ret F n h} {v0 v1 v2 v3 v4 v5 st x a} : eX6_settles ret F (n + 1) 73 [v0, v1, v2, v3, v4, v5] (.int x :: .ref a :: st) h 0 0 = ((h.1 a).1 = 1 ∧ vp_in x (h.1 a).2 ∧ eX6_settles ret F n 74 [v0, v1, v2, v3, v4, v5] (.int (h.2.1 a x.toNatClampNeg) :: st) h 0 0) := (amWp_dec rfl dX6_settles_73 rfl).trans rfl
theorem wX6_settles_74 {ret F n h} {v0 v1 v2 v3 v4 v5 st} : eX6_settles ret F (n + 1) 74 [v0, v1, v2, v3, v4, v5] (st) h 0 0 = (eX6_settles ret F n 75 [v0, v1, v2, v3, v4, v5] (.int (nI 1) :: st) h 0 0) := (amWp_dec rfl dX6_settles_74 rfl).trans rfl
theorem wX6_settles_75 {ret F n h} {v0 v1 v2 v3 v4 v5 st y x} : eX6_settles ret F (n + 1) 75 [v0, v1, v2, v3, v4, v5] (.int y :: .int x :: st) h 0 0 = (eX6_settles ret F n 76 [v0, v1, v2, v3, v4, v5] (.int (x - y) :: st) h 0 0) := (amWp_dec rfl dX6_settles_75 rfl).trans rfl
theorem wX6_settles_76 {ret F n h} {v0 v1 v2 v3 v4 v5 st x} : eX6_settles ret F (n + 1) 76 [v0, v1, v2, v3, v4, v5] (.int x :: st) h 0 0 = (eX6_settles ret F n 78 [v0, v1, v2, v3, amClr v4, .int x] (st) h 0 0) := (amWp_dec rfl dX6_settles_76 rfl).trans (amTrue (Nat.le_of_ble_eq_true rfl))
theorem wX6_settles_78 {ret F n ls st h k z} : eX6_settles ret F (n + 1) 78 ls st h k z = F 78 ls st h k z := amWp_cut rfl
theorem uX6_settles_78 {ret F n h} {v0 v1 v2 v3 v4 st x} : sX6_settles ret F n 78 [v0, v1, v2, v3, v4, .int x] (st) h 0 0 = (eX6_settles ret F n 80 [v0, v1, v2, v3, v4, .int x] (.int x :: st) h 0 0) := (amWs_dec dX6_settles_78 rfl).trans rfl
theorem wX6_settles_80 {ret F n h} {v0 v1 v2 v3 v4 v5 st x} : eX6_settles ret F (n + 1) 80 [v0, v1, v2, v3, v4, v5] (.int x :: st) h 0 0 = ((x < 0 → eX6_settles ret F n 111 [v0, v1, v2, v3, v4, v5] (st) h 0 0) ∧ (¬ x < 0 → eX6_settles ret F n 83 [v0, v1, v2, v3, v4, v5] (st) h 0 0)) := (amWp_dec rfl dX6_settles_80 rfl).trans rfl
theorem wX6_settles_83 {ret F n h} {v0 v1 v2 v3 v4 v5 st} : eX6_settles ret F (n + 1) 83 [v0, v1, v2, v3, v4, v5] (st) h 0 0 = (amIsR v0 ∧ eX6_settles ret F n 84 [v0, v1, v2, v3, v4, v5] (v0 :: st) h 0 0) := (amWp_dec rfl dX6_settles_83 rfl).trans rfl
theorem wX6_settles_84 {ret F n h} {v0 v1 v2 v3 v4 v5 a} : eX6_settles ret F (n + 1) 84 [v0, v1, v2, v3, v4, v5] (.ref a :: []) h 0 0 = (h.1 a = (0, 6) ∧ eX6_settles ret F n 87 [v0, v1, v2, v3, v4, v5] (va_rf (h.2.2.2.1 a 0) :: []) h 0 0) := (amWp_dec rfl dX6_settles_84 rfl).trans (amS4 (Nat.le_of_ble_eq_true rfl) (Nat.le_of_ble_eq_true rfl) (Nat.le_of_ble_eq_true rfl) (Nat.le_of_ble_eq_true rfl))
theorem wX6_settles_87 {ret F n h} {v0 v1 v2 v3 v4 v5 st} : eX6_settles ret F (n + 1) 87 [v0, v1, v2, v3, v4, v5] (st) h 0 0 = (eX6_settles ret F n 89 [v0, v1, v2, v3, v4, v5] (.int (nI 6) :: st) h 0 0) := (amWp_dec rfl dX6_settles_87 rfl).trans rfl
theorem wX6_settles_89 {ret F n h} {v0 v1 v2 v3 v4 st x} : eX6_settles ret F (n + 1) 89 [v0, v1, v2, v3, v4, .int x] (st) h 0 0 = (eX6_settles ret F n 91 [v0, v1, v2, v3, v4, .int x] (.int x :: st) h 0 0) := (amWp_dec rfl dX6_settles_89 rfl).trans rfl
theorem wX6_settles_91 {ret F n h} {v0 v1 v2 v3 v4 v5 st y x} : eX6_settles ret F (n + 1) 91 [v0, v1, v2, v3, v4, v5] (.int y :: .int x :: st) h 0 0 = (eX6_settles ret F n 92 [v0, v1, v2, v3, v4, v5] (.int (x + y) :: st) h 0 0) := (amWp_dec rfl dX6_settles_91 rfl).trans rfl
theorem wX6_settles_92 {ret F n h} {v0 v1 v2 v3 v5 st x} : eX6_settles ret F (n + 1) 92 [v0, v1, v2, v3, .int x, v5] (st) h 0 0 = (eX6_settles ret F n 94 [v0, v1, v2, v3, .int x, v5] (.int x :: st) h 0 0) := (amWp_dec rfl dX6_settles_92 rfl).trans rfl
theorem wX6_settles_94 {ret F n h} {v0 v1 v2 v3 v4 v5 st} : eX6_settles ret F (n + 1) 94 [v0, v1, v2, v3, v4, v5] (st) h 0 0 = (eX6_settles ret F n 96 [v0, v1, v2, v3, v4, v5] (.int (nI 10) :: st) h 0 0) := (amWp_dec rfl dX6_settles_94 rfl).trans rfl
theorem wX6_settles_96 {ret F n h} {v0 v1 v2 v3 v4 v5 st y x} : eX6_settles ret F (n + 1) 96 [v0, v1, v2, v3, v4, v5] (.int y :: .int x :: st) h 0 0 = (¬ y = 0 ∧ eX6_settles ret F n 97 [v0, v1, v2, v3, v4, v5] (.int (x - x / y * y) :: st) h 0 0) := (amWp_dec rfl dX6_settles_96 rfl).trans rfl
theorem wX6_settles_97 {ret F n h} {v0 v1 v2 v3 v4 v5 st y x a} : eX6_settles ret F (n + 1) 97 [v0, v1, v2, v3, v4, v5] (.int y :: .int x :: .ref a :: st) h 0 0 = ((h.1 a).1 = 1 ∧ vp_in x (h.1 a).2 ∧ amN0 ≤ a ∧ eX6_settles ret F n 98 [v0, v1, v2, v3, v4, v5] (st) (amSI h (amU h.2.1 a x.toNatClampNeg y)) 0 0) := (amWp_dec rfl dX6_settles_97 rfl).trans rfl
theorem wX6_settles_98 {ret F n h} {v0 v1 v2 v3 v5 st x} : eX6_settles ret F (n + 1) 98 [v0, v1, v2, v3, .int x, v5] (st) h 0 0 = (eX6_settles ret F n 100 [v0, v1, v2, v3, .int x, v5] (.int x :: st) h 0 0) := (amWp_dec rfl dX6_settles_98 rfl).trans rfl
theorem wX6_settles_100 {ret F n h} {v0 v1 v2 v3 v4 v5 st} : eX6_settles ret F (n + 1) 100 [v0, v1, v2, v3, v4, v5] (st) h 0 0 = (eX6_settles ret F n 102 [v0, v1, v2, v3, v4, v5] (.int (nI 10) :: st) h 0 0) := (amWp_dec rfl dX6_settles_100 rfl).trans rfl
theorem wX6_settles_102 {ret F n h} {v0 v1 v2 v3 v4 v5 st y x} : eX6_settles ret F (n + 1) 102 [v0, v1, v2, v3, v4, v5] (.int y :: .int x :: st) h 0 0 = (¬ y = 0 ∧ eX6_settles ret F n 103 [v0, v1, v2, v3, v4, v5] (.int (x / y) :: st) h 0 0) := (amWp_dec rfl dX6_settles_102 rfl).trans rfl
theorem wX6_settles_103 {ret F n h} {v0 v1 v2 v3 v4 v5 st x} : eX6_settles ret F (n + 1) 103 [v0, v1, v2, v3, v4, v5] (.int x :: st) h 0 0 = (eX6_settles ret F n 105 [v0, v1, v2, amClr v3, .int x, v5] (st) h 0 0) := (amWp_dec rfl dX6_settles_103 rfl).trans (amTrue (Nat.le_of_ble_eq_true rfl))
theorem wX6_settles_105 {ret F n h} {v0 v1 v2 v3 v4 st x} : eX6_settles ret F (n + 1) 105 [v0, v1, v2, v3, v4, .int x] (st) h 0 0 = (eX6_settles ret F n 108 [v0, v1, v2, v3, amClr v4, .int (x - nI 1)] (st) h 0 0) := (amWp_dec rfl dX6_settles_105 rfl).trans (by rw [← amDec x 1 (by decide)]; rfl)
theorem wX6_settles_108 {ret F n h} {v0 v1 v2 v3 v4 v5 st} : eX6_settles ret F (n + 1) 108 [v0, v1, v2, v3, v4, v5] (st) h 0 0 = (eX6_settles ret F n 78 [v0, v1, v2, v3, v4, v5] (st) h 0 0) := (amWp_dec rfl dX6_settles_108 rfl).trans rfl
theorem wX6_settles_111 {ret F n h} {v0 v1 v2 v4 v5 st x} : eX6_settles ret F (n + 1) 111 [v0, v1, v2, .int x, v4, v5] (st) h 0 0 = (eX6_settles ret F n 112 [v0, v1, v2, .int x, v4, v5] (.int x :: st) h 0 0) := (amWp_dec rfl dX6_settles_111 rfl).trans rfl
theorem wX6_settles_112 {ret F n h} {v0 v1 v2 v3 v4 v5 x} : eX6_settles ret F (n + 1) 112 [v0, v1, v2, v3, v4, v5] ([.int x]) h 0 0 = (ret (some (.int x)) h 0 0) := (amWp_dec rfl dX6_settles_112 rfl).trans (amTrue ⟨_, rfl, rfl⟩)
theorem evX6_settles (l : Launch) (G : amG) : ∀ pc S i sz, amLk rX6_settles pc = some S → decode cX6_settles pc = .ok (i, sz) → amSiteP pc G l yX6_settles.cls yX6_settles.name yX6_settles.desc (amRm 5 0 0) i sz S.1 S.2.1 S.2.2.1 S.2.2.2 := amLk_ok (by
  refine List.forall_mem_cons.mpr ⟨⟨_, _, dX6_settles_4, amSite.P (amSiteS (metX6_in l G) rfl (by decide) (by decide) (lw_S q1381 q1382 q94 q1383) ⟨by decide +kernel, by decide +kernel, by decide +kernel⟩)⟩, ?_⟩
  refine List.forall_mem_cons.mpr ⟨⟨_, _, dX6_settles_13, amSite.P (amSiteV (C := RX6) (metX6_takesOrder l G) rfl (by decide) (by decide) (lw_V q1384 q1386 qs40 q94 q1387) ⟨_, rfl, rfl⟩ ⟨rfl, by decide +kernel, by decide +kernel, by decide +kernel⟩)⟩, ?_⟩
  refine List.forall_mem_cons.mpr ⟨⟨_, _, dX6_settles_17, amSite.P (amSiteV (C := RX6) (metX6_number l G) rfl (by decide) (by decide) (lw_V q1439 q1441 qs49 q94 q1442) ⟨_, rfl, rfl⟩ ⟨rfl, by decide +kernel, by decide +kernel, by decide +kernel⟩)⟩, ?_⟩
  refine List.forall_mem_cons.mpr ⟨⟨_, _, dX6_settles_28, amSite.P (amSiteV (C := RX6) (metX6_laysBest l G) rfl (by decide) (by decide) (lw_V q1460 q1462 qs53 q94 q1463) ⟨_, rfl, rfl⟩ ⟨rfl, by decide +kernel, by decide +kernel, by decide +kernel⟩)⟩, ?_⟩
  refine List.forall_mem_cons.mpr ⟨⟨_, _, dX6_settles_32, amSite.P (amSiteGet ⟨_, rfl, by decide, Or.inl q1314⟩)⟩, ?_⟩
  refine List.forall_mem_cons.mpr ⟨⟨_, _, dX6_settles_40, amSite.P (amSiteV (C := RX6) (metX6_grows l G) rfl (by decide) (by decide) (lw_V q1472 q1474 qs56 q94 q1475) ⟨_, rfl, rfl⟩ ⟨rfl, by decide +kernel, by decide +kernel, by decide +kernel⟩)⟩, ?_⟩
  refine List.forall_mem_cons.mpr ⟨⟨_, _, dX6_settles_44, amSite.P (amSiteV (C := RX6) (metX6_number l G) rfl (by decide) (by decide) (lw_V q1439 q1441 qs49 q94 q1442) ⟨_, rfl, rfl⟩ ⟨rfl, by decide +kernel, by decide +kernel, by decide +kernel⟩)⟩, ?_⟩
  refine List.forall_mem_cons.mpr ⟨⟨_, _, dX6_settles_49, amSite.P (amSiteGet ⟨_, rfl, by decide, Or.inl q1295⟩)⟩, ?_⟩
  refine List.forall_mem_cons.mpr ⟨⟨_, _, dX6_settles_69, amSite.P (amSiteGet ⟨_, rfl, by decide, Or.inl q1295⟩)⟩, ?_⟩
  refine List.forall_mem_cons.mpr ⟨⟨_, _, dX6_settles_84, amSite.P (amSiteGet ⟨_, rfl, by decide, Or.inl q1295⟩)⟩, ?_⟩
  exact fun _ h => absurd h List.not_mem_nil)
theorem goX6_settles {ret F} (hF : amCld cX6_settles kX6_settles (amLk rX6_settles) (some .int) 0 0 ret F) (n : Nat) {pc ls st h k z} (q : sX6_settles ret F n pc ls st h k z) : F pc ls st h k z := hF.1 n pc ls st h k z q
theorem metX6_settles (l : Launch) (G : amG) : amMet l G yX6_settles (ws_ yX6_settles cX6_settles 6 (some .int)) 5 0 0 tX6_settles := by
  refine amMet_of (cut := kX6_settles) (by decide +kernel) (evX6_settles l G) ?_
  intro as h K hT
  match as, hT with
  | [.ref t, .int w], ⟨S, e1, hA, hK⟩ =>
  refine ⟨Nat.le_of_ble_eq_true rfl, fun F hF => ?_⟩
  show F 0 [.ref t, .int w, .retAddr 0, .retAddr 0, .retAddr 0, .retAddr 0] [] h 0 0
  obtain ⟨t, rfl⟩ : ∃ i : Nat, i = t := ⟨_, rfl⟩
  subst e1
  have hR := hA.1
  have hS := hA.2.1
  have hO := hA.2.2
  have n7 := hS.n7
  have n10 : (nI 10 = 0) = False := by decide
  by_cases hw : lN 0 ≤ w.toInt64 ∧ w.toInt64 ≤ lN 1
  · have pm : List.Perm (settleL S w) S.ord := by
      unfold settleL
      split
      · exact best_perm hO
      · exact grown_perm hO
    have len := pm.length_eq
    have x7 : ∀ r, r < S.ord.length → (settleL S w).getD r 0 < 7 := fun r hr => by
      have := hO.lt _ (pm.mem_iff.mp (getD_mem (l := settleL S w) (p := r) (by omega)))
      omega
    have nl := numL_small (l := settleL S w) (by omega) (fun x hx => by have := hO.lt _ (pm.mem_iff.mp hx); omega)
    have no := numL_small (l := S.ord) n7 (fun x hx => by have := hO.lt _ hx; omega)
    rw [stlR, if_neg (fun z => z hw)] at hK
    have f48 : ∀ m v4 v5, RwIs m 125 0 S → maFr h.2.1 m → F 48 [.ref 124, .int w, .int (nI (numL S.ord)), .int (nI (numL (settleL S w))), v4, v5] [] (amSI h m) 0 0 := by
      intro m v4 v5 hm hf
      have m0 : m 125 0 = nI S.ord.length := hm.n
      by_cases z : S.ord.length = 0
      · rw [if_pos (Or.inl z)] at hK
        have key := hK m hm hf
        rw [z] at m0
        refine goX6_settles hF 60 ?_
        simp (disch := omega) only [wX6_settles_0, uX6_settles_0, wX6_settles_1, wX6_settles_2, wX6_settles_3, wX6_settles_4, wX6_settles_7, wX6_settles_10, wX6_settles_11, wX6_settles_12, wX6_settles_13, wX6_settles_16, uX6_settles_16, wX6_settles_17, wX6_settles_20, wX6_settles_21, wX6_settles_22, wX6_settles_23, wX6_settles_24, wX6_settles_27, wX6_settles_28, wX6_settles_31, uX6_settles_31, wX6_settles_32, wX6_settles_35, wX6_settles_36, wX6_settles_39, wX6_settles_40, wX6_settles_43, uX6_settles_43, wX6_settles_44, wX6_settles_47, wX6_settles_48, uX6_settles_48, wX6_settles_49, wX6_settles_52, wX6_settles_53, wX6_settles_54, wX6_settles_57, wX6_settles_58, wX6_settles_59, wX6_settles_62, wX6_settles_64, wX6_settles_65, wX6_settles_66, wX6_settles_68, wX6_settles_69, wX6_settles_72, wX6_settles_73, wX6_settles_74, wX6_settles_75, wX6_settles_76, wX6_settles_78, uX6_settles_78, wX6_settles_80, wX6_settles_83, wX6_settles_84, wX6_settles_87, wX6_settles_89, wX6_settles_91, wX6_settles_92, wX6_settles_94, wX6_settles_96, wX6_settles_97, wX6_settles_98, wX6_settles_100, wX6_settles_102, wX6_settles_103, wX6_settles_105, wX6_settles_108, wX6_settles_111, wX6_settles_112, amSI_1, amSI_2, amSI_3, amSI_s, amU_at, amIsR_ref, amIsR_null, amIsR_rf, amRf_some, amRf_none, amClr_int, amClr_ref, amClr_null, amClr_long, amClr_ra, amClr_rf, amFit_int, amFit_oref, amFit_aref, amFit_onull, amFit_anull, amOptSome, amOptNone, List.cons_append, List.nil_append, true_and, and_true, true_implies, not_true_eq_false, not_false_eq_true, false_implies, and_self, Nat.add_zero, Nat.zero_add, ne_eq, Prod.mk.injEq, amC01_0, amC01_1, amC01_nb, amNb0, amNb1, amTcpI_d, Nat.reduceLeDiff, Nat.reduceAdd, Nat.reduceSub, Nat.reduceEqDiff, Nat.le_refl, amN0le, hR.s, hR.r, amLeI, amLtI, amEqI, amLe0, amGt0, amEq0, amNotPosI, amGe0, amVI, amCl_nI, amAdd, amSub, amMul, m0]
        exact amRet.of (by decide) (by decide) key
      · have z' : (S.ord.length = 0) = False := eq_false z
        by_cases y : numL (settleL S w) = numL S.ord
        · rw [if_pos (Or.inr ⟨len, y⟩)] at hK
          have key := hK m hm hf
          have y' : (numL (settleL S w) = numL S.ord) = True := eq_true y
          refine goX6_settles hF 60 ?_
          simp (disch := omega) only [wX6_settles_0, uX6_settles_0, wX6_settles_1, wX6_settles_2, wX6_settles_3, wX6_settles_4, wX6_settles_7, wX6_settles_10, wX6_settles_11, wX6_settles_12, wX6_settles_13, wX6_settles_16, uX6_settles_16, wX6_settles_17, wX6_settles_20, wX6_settles_21, wX6_settles_22, wX6_settles_23, wX6_settles_24, wX6_settles_27, wX6_settles_28, wX6_settles_31, uX6_settles_31, wX6_settles_32, wX6_settles_35, wX6_settles_36, wX6_settles_39, wX6_settles_40, wX6_settles_43, uX6_settles_43, wX6_settles_44, wX6_settles_47, wX6_settles_48, uX6_settles_48, wX6_settles_49, wX6_settles_52, wX6_settles_53, wX6_settles_54, wX6_settles_57, wX6_settles_58, wX6_settles_59, wX6_settles_62, wX6_settles_64, wX6_settles_65, wX6_settles_66, wX6_settles_68, wX6_settles_69, wX6_settles_72, wX6_settles_73, wX6_settles_74, wX6_settles_75, wX6_settles_76, wX6_settles_78, uX6_settles_78, wX6_settles_80, wX6_settles_83, wX6_settles_84, wX6_settles_87, wX6_settles_89, wX6_settles_91, wX6_settles_92, wX6_settles_94, wX6_settles_96, wX6_settles_97, wX6_settles_98, wX6_settles_100, wX6_settles_102, wX6_settles_103, wX6_settles_105, wX6_settles_108, wX6_settles_111, wX6_settles_112, amSI_1, amSI_2, amSI_3, amSI_s, amU_at, amIsR_ref, amIsR_null, amIsR_rf, amRf_some, amRf_none, amClr_int, amClr_ref, amClr_null, amClr_long, amClr_ra, amClr_rf, amFit_int, amFit_oref, amFit_aref, amFit_onull, amFit_anull, amOptSome, amOptNone, List.cons_append, List.nil_append, true_and, and_true, true_implies, not_true_eq_false, not_false_eq_true, false_implies, and_self, Nat.add_zero, Nat.zero_add, ne_eq, Prod.mk.injEq, amC01_0, amC01_1, amC01_nb, amNb0, amNb1, amTcpI_d, Nat.reduceLeDiff, Nat.reduceAdd, Nat.reduceSub, Nat.reduceEqDiff, Nat.le_refl, amN0le, hR.s, hR.r, amLeI, amLtI, amEqI, amLe0, amGt0, amEq0, amNotPosI, amGe0, amVI, amCl_nI, amAdd, amSub, amMul, m0, z', y']
          exact amRet.of (by decide) (by decide) key
        · rw [if_neg (fun q => by rcases q with q | q; exact z q; exact y q.2)] at hK
          have y' : (numL (settleL S w) = numL S.ord) = False := eq_false y
          have loop : ∀ k m2, k ≤ S.ord.length → m2 125 0 = nI S.ord.length → lsI m m2 S.ord.length (fun r => if k ≤ r then (settleL S w).getD r 0 else S.ord.getD r 0) (fun r => S.sets.getD r 0) (fun r => S.ahead.getD r 0) → F 78 [.ref 124, .int w, .int (nI (numL S.ord)), .int (nI (numL (settleL S w))), .int (nI (numL ((settleL S w).take k))), .int (nI k - nI 1)] [] (amSI h m2) 0 0 := by
            intro k
            induction k with
            | zero =>
              intro m2 _ e0 hl
              have q : (nI 0 - nI 1 < 0) = True := eq_true n1neg
              have key := hK m2 (hl.row hm n7 len hS.ls hS.la e0 rfl (fun r hr => (if_pos (Nat.zero_le r)).symm) (fun r hr => rfl) (fun r hr => rfl)) (hf.tr hl.fr)
              refine goX6_settles hF 60 ?_
              simp (disch := omega) only [wX6_settles_0, uX6_settles_0, wX6_settles_1, wX6_settles_2, wX6_settles_3, wX6_settles_4, wX6_settles_7, wX6_settles_10, wX6_settles_11, wX6_settles_12, wX6_settles_13, wX6_settles_16, uX6_settles_16, wX6_settles_17, wX6_settles_20, wX6_settles_21, wX6_settles_22, wX6_settles_23, wX6_settles_24, wX6_settles_27, wX6_settles_28, wX6_settles_31, uX6_settles_31, wX6_settles_32, wX6_settles_35, wX6_settles_36, wX6_settles_39, wX6_settles_40, wX6_settles_43, uX6_settles_43, wX6_settles_44, wX6_settles_47, wX6_settles_48, uX6_settles_48, wX6_settles_49, wX6_settles_52, wX6_settles_53, wX6_settles_54, wX6_settles_57, wX6_settles_58, wX6_settles_59, wX6_settles_62, wX6_settles_64, wX6_settles_65, wX6_settles_66, wX6_settles_68, wX6_settles_69, wX6_settles_72, wX6_settles_73, wX6_settles_74, wX6_settles_75, wX6_settles_76, wX6_settles_78, uX6_settles_78, wX6_settles_80, wX6_settles_83, wX6_settles_84, wX6_settles_87, wX6_settles_89, wX6_settles_91, wX6_settles_92, wX6_settles_94, wX6_settles_96, wX6_settles_97, wX6_settles_98, wX6_settles_100, wX6_settles_102, wX6_settles_103, wX6_settles_105, wX6_settles_108, wX6_settles_111, wX6_settles_112, amSI_1, amSI_2, amSI_3, amSI_s, amU_at, amIsR_ref, amIsR_null, amIsR_rf, amRf_some, amRf_none, amClr_int, amClr_ref, amClr_null, amClr_long, amClr_ra, amClr_rf, amFit_int, amFit_oref, amFit_aref, amFit_onull, amFit_anull, amOptSome, amOptNone, List.cons_append, List.nil_append, true_and, and_true, true_implies, not_true_eq_false, not_false_eq_true, false_implies, and_self, Nat.add_zero, Nat.zero_add, ne_eq, Prod.mk.injEq, amC01_0, amC01_1, amC01_nb, amNb0, amNb1, amTcpI_d, Nat.reduceLeDiff, Nat.reduceAdd, Nat.reduceSub, Nat.reduceEqDiff, Nat.le_refl, amN0le, hR.s, hR.r, q]
              exact amRet.of (by decide) (by decide) key
            | succ k ih =>
              intro m2 hk e0 hl
              have es : nI (k + 1) - nI 1 = nI k := by rw [amSub (by omega), Nat.add_sub_cancel]
              have xk := x7 k (by omega)
              have tk : numL ((settleL S w).take (k + 1)) = 10 * numL ((settleL S w).take k) + (settleL S w).getD k 0 := numL_take (by omega)
              have ts := numL_small (l := (settleL S w).take (k + 1)) (by rw [List.length_take]; omega) (fun x hx => by have := hO.lt _ (pm.mem_iff.mp (List.mem_of_mem_take hx)); omega)
              have rm := pk_rem (a := numL ((settleL S w).take (k + 1))) (d := 10) (by omega) (by omega) (by omega)
              have dv : nI (numL ((settleL S w).take (k + 1))) / nI 10 = nI (numL ((settleL S w).take (k + 1)) / 10) := pk_div (by omega) (by omega) (by omega)
              have r1 : numL ((settleL S w).take (k + 1)) % 10 = (settleL S w).getD k 0 := by omega
              have r2 : numL ((settleL S w).take (k + 1)) / 10 = numL ((settleL S w).take k) := by omega
              rw [r1] at rm
              rw [r2] at dv
              rw [dv] at rm
              have nx := ih (amU m2 125 (6 + k) (nI ((settleL S w).getD k 0))) (by omega) (by
                simp (disch := omega) only [amU_at, amU_ne, amU_nj, amU_neR, up_ne, up_at, amSI_2]
                exact e0) ((hl.o n7 (by omega) ((settleL S w).getD k 0)).wd (Nat.le_refl _) (fun r hr => by
                by_cases c : r = k
                · subst c
                  rw [if_pos (Nat.le_refl _), if_pos rfl]
                · rw [if_neg c]
                  by_cases c2 : k ≤ r
                  · rw [if_pos c2, if_pos (by omega)]
                  · rw [if_neg c2, if_neg (by omega)]) (fun r hr => rfl) (fun r hr => rfl))
              rw [es]
              refine goX6_settles hF 60 ?_
              simp (disch := omega) only [wX6_settles_0, uX6_settles_0, wX6_settles_1, wX6_settles_2, wX6_settles_3, wX6_settles_4, wX6_settles_7, wX6_settles_10, wX6_settles_11, wX6_settles_12, wX6_settles_13, wX6_settles_16, uX6_settles_16, wX6_settles_17, wX6_settles_20, wX6_settles_21, wX6_settles_22, wX6_settles_23, wX6_settles_24, wX6_settles_27, wX6_settles_28, wX6_settles_31, uX6_settles_31, wX6_settles_32, wX6_settles_35, wX6_settles_36, wX6_settles_39, wX6_settles_40, wX6_settles_43, uX6_settles_43, wX6_settles_44, wX6_settles_47, wX6_settles_48, uX6_settles_48, wX6_settles_49, wX6_settles_52, wX6_settles_53, wX6_settles_54, wX6_settles_57, wX6_settles_58, wX6_settles_59, wX6_settles_62, wX6_settles_64, wX6_settles_65, wX6_settles_66, wX6_settles_68, wX6_settles_69, wX6_settles_72, wX6_settles_73, wX6_settles_74, wX6_settles_75, wX6_settles_76, wX6_settles_78, uX6_settles_78, wX6_settles_80, wX6_settles_83, wX6_settles_84, wX6_settles_87, wX6_settles_89, wX6_settles_91, wX6_settles_92, wX6_settles_94, wX6_settles_96, wX6_settles_97, wX6_settles_98, wX6_settles_100, wX6_settles_102, wX6_settles_103, wX6_settles_105, wX6_settles_108, wX6_settles_111, wX6_settles_112, amSI_1, amSI_2, amSI_3, amSI_s, amU_at, amIsR_ref, amIsR_null, amIsR_rf, amRf_some, amRf_none, amClr_int, amClr_ref, amClr_null, amClr_long, amClr_ra, amClr_rf, amFit_int, amFit_oref, amFit_aref, amFit_onull, amFit_anull, amOptSome, amOptNone, List.cons_append, List.nil_append, true_and, and_true, true_implies, not_true_eq_false, not_false_eq_true, false_implies, and_self, Nat.add_zero, Nat.zero_add, ne_eq, Prod.mk.injEq, amC01_0, amC01_1, amC01_nb, amNb0, amNb1, amTcpI_d, Nat.reduceLeDiff, Nat.reduceAdd, Nat.reduceSub, Nat.reduceEqDiff, Nat.le_refl, amN0le, hR.s, hR.r, amNotPosI, amVI, amCl_nI, amAdd, n10, rm, dv]
              exact nx
          have nx := loop S.ord.length m (Nat.le_refl _) m0 (hm.lsI.wd (Nat.le_refl _) (fun r hr => by rw [if_neg (by omega)]) (fun r hr => rfl) (fun r hr => rfl))
          rw [List.take_of_length_le (by omega)] at nx
          refine goX6_settles hF 60 ?_
          simp (disch := omega) only [wX6_settles_0, uX6_settles_0, wX6_settles_1, wX6_settles_2, wX6_settles_3, wX6_settles_4, wX6_settles_7, wX6_settles_10, wX6_settles_11, wX6_settles_12, wX6_settles_13, wX6_settles_16, uX6_settles_16, wX6_settles_17, wX6_settles_20, wX6_settles_21, wX6_settles_22, wX6_settles_23, wX6_settles_24, wX6_settles_27, wX6_settles_28, wX6_settles_31, uX6_settles_31, wX6_settles_32, wX6_settles_35, wX6_settles_36, wX6_settles_39, wX6_settles_40, wX6_settles_43, uX6_settles_43, wX6_settles_44, wX6_settles_47, wX6_settles_48, uX6_settles_48, wX6_settles_49, wX6_settles_52, wX6_settles_53, wX6_settles_54, wX6_settles_57, wX6_settles_58, wX6_settles_59, wX6_settles_62, wX6_settles_64, wX6_settles_65, wX6_settles_66, wX6_settles_68, wX6_settles_69, wX6_settles_72, wX6_settles_73, wX6_settles_74, wX6_settles_75, wX6_settles_76, wX6_settles_78, uX6_settles_78, wX6_settles_80, wX6_settles_83, wX6_settles_84, wX6_settles_87, wX6_settles_89, wX6_settles_91, wX6_settles_92, wX6_settles_94, wX6_settles_96, wX6_settles_97, wX6_settles_98, wX6_settles_100, wX6_settles_102, wX6_settles_103, wX6_settles_105, wX6_settles_108, wX6_settles_111, wX6_settles_112, amSI_1, amSI_2, amSI_3, amSI_s, amU_at, amIsR_ref, amIsR_null, amIsR_rf, amRf_some, amRf_none, amClr_int, amClr_ref, amClr_null, amClr_long, amClr_ra, amClr_rf, amFit_int, amFit_oref, amFit_aref, amFit_onull, amFit_anull, amOptSome, amOptNone, List.cons_append, List.nil_append, true_and, and_true, true_implies, not_true_eq_false, not_false_eq_true, false_implies, and_self, Nat.add_zero, Nat.zero_add, ne_eq, Prod.mk.injEq, amC01_0, amC01_1, amC01_nb, amNb0, amNb1, amTcpI_d, Nat.reduceLeDiff, Nat.reduceAdd, Nat.reduceSub, Nat.reduceEqDiff, Nat.le_refl, amN0le, hR.s, hR.r, amVI, amCl_nI, amEqI, amEq0, m0, z', y']
          exact nx
    refine goX6_settles hF 60 ?_
    simp (disch := omega) only [wX6_settles_0, uX6_settles_0, wX6_settles_1, wX6_settles_2, wX6_settles_3, wX6_settles_4, wX6_settles_7, wX6_settles_10, wX6_settles_11, wX6_settles_12, wX6_settles_13, wX6_settles_16, uX6_settles_16, wX6_settles_17, wX6_settles_20, wX6_settles_21, wX6_settles_22, wX6_settles_23, wX6_settles_24, wX6_settles_27, wX6_settles_28, wX6_settles_31, uX6_settles_31, wX6_settles_32, wX6_settles_35, wX6_settles_36, wX6_settles_39, wX6_settles_40, wX6_settles_43, uX6_settles_43, wX6_settles_44, wX6_settles_47, wX6_settles_48, uX6_settles_48, wX6_settles_49, wX6_settles_52, wX6_settles_53, wX6_settles_54, wX6_settles_57, wX6_settles_58, wX6_settles_59, wX6_settles_62, wX6_settles_64, wX6_settles_65, wX6_settles_66, wX6_settles_68, wX6_settles_69, wX6_settles_72, wX6_settles_73, wX6_settles_74, wX6_settles_75, wX6_settles_76, wX6_settles_78, uX6_settles_78, wX6_settles_80, wX6_settles_83, wX6_settles_84, wX6_settles_87, wX6_settles_89, wX6_settles_91, wX6_settles_92, wX6_settles_94, wX6_settles_96, wX6_settles_97, wX6_settles_98, wX6_settles_100, wX6_settles_102, wX6_settles_103, wX6_settles_105, wX6_settles_108, wX6_settles_111, wX6_settles_112, amSI_1, amSI_2, amSI_3, amSI_s, amU_at, amIsR_ref, amIsR_null, amIsR_rf, amRf_some, amRf_none, amClr_int, amClr_ref, amClr_null, amClr_long, amClr_ra, amClr_rf, amFit_int, amFit_oref, amFit_aref, amFit_onull, amFit_anull, amOptSome, amOptNone, List.cons_append, List.nil_append, true_and, and_true, true_implies, not_true_eq_false, not_false_eq_true, false_implies, and_self, Nat.add_zero, Nat.zero_add, ne_eq, Prod.mk.injEq, amC01_0, amC01_1, amC01_nb, amNb0, amNb1, amTcpI_d, Nat.reduceLeDiff, Nat.reduceAdd, Nat.reduceSub, Nat.reduceEqDiff, Nat.le_refl, amN0le, hR.s, hR.r, tX6_in_d, hw]
    refine mTakes hA (fun m1 p1 f1 => ?_)
    refine goX6_settles hF 60 ?_
    simp (disch := omega) only [wX6_settles_0, uX6_settles_0, wX6_settles_1, wX6_settles_2, wX6_settles_3, wX6_settles_4, wX6_settles_7, wX6_settles_10, wX6_settles_11, wX6_settles_12, wX6_settles_13, wX6_settles_16, uX6_settles_16, wX6_settles_17, wX6_settles_20, wX6_settles_21, wX6_settles_22, wX6_settles_23, wX6_settles_24, wX6_settles_27, wX6_settles_28, wX6_settles_31, uX6_settles_31, wX6_settles_32, wX6_settles_35, wX6_settles_36, wX6_settles_39, wX6_settles_40, wX6_settles_43, uX6_settles_43, wX6_settles_44, wX6_settles_47, wX6_settles_48, uX6_settles_48, wX6_settles_49, wX6_settles_52, wX6_settles_53, wX6_settles_54, wX6_settles_57, wX6_settles_58, wX6_settles_59, wX6_settles_62, wX6_settles_64, wX6_settles_65, wX6_settles_66, wX6_settles_68, wX6_settles_69, wX6_settles_72, wX6_settles_73, wX6_settles_74, wX6_settles_75, wX6_settles_76, wX6_settles_78, uX6_settles_78, wX6_settles_80, wX6_settles_83, wX6_settles_84, wX6_settles_87, wX6_settles_89, wX6_settles_91, wX6_settles_92, wX6_settles_94, wX6_settles_96, wX6_settles_97, wX6_settles_98, wX6_settles_100, wX6_settles_102, wX6_settles_103, wX6_settles_105, wX6_settles_108, wX6_settles_111, wX6_settles_112, amSI_1, amSI_2, amSI_3, amSI_s, amU_at, amIsR_ref, amIsR_null, amIsR_rf, amRf_some, amRf_none, amClr_int, amClr_ref, amClr_null, amClr_long, amClr_ra, amClr_rf, amFit_int, amFit_oref, amFit_aref, amFit_onull, amFit_anull, amOptSome, amOptNone, List.cons_append, List.nil_append, true_and, and_true, true_implies, not_true_eq_false, not_false_eq_true, false_implies, and_self, Nat.add_zero, Nat.zero_add, ne_eq, Prod.mk.injEq, amC01_0, amC01_1, amC01_nb, amNb0, amNb1, amTcpI_d, Nat.reduceLeDiff, Nat.reduceAdd, Nat.reduceSub, Nat.reduceEqDiff, Nat.le_refl, amN0le, hR.s, hR.r]
    refine mNumber p1 ?_
    simp (disch := omega) only [wX6_settles_0, uX6_settles_0, wX6_settles_1, wX6_settles_2, wX6_settles_3, wX6_settles_4, wX6_settles_7, wX6_settles_10, wX6_settles_11, wX6_settles_12, wX6_settles_13, wX6_settles_16, uX6_settles_16, wX6_settles_17, wX6_settles_20, wX6_settles_21, wX6_settles_22, wX6_settles_23, wX6_settles_24, wX6_settles_27, wX6_settles_28, wX6_settles_31, uX6_settles_31, wX6_settles_32, wX6_settles_35, wX6_settles_36, wX6_settles_39, wX6_settles_40, wX6_settles_43, uX6_settles_43, wX6_settles_44, wX6_settles_47, wX6_settles_48, uX6_settles_48, wX6_settles_49, wX6_settles_52, wX6_settles_53, wX6_settles_54, wX6_settles_57, wX6_settles_58, wX6_settles_59, wX6_settles_62, wX6_settles_64, wX6_settles_65, wX6_settles_66, wX6_settles_68, wX6_settles_69, wX6_settles_72, wX6_settles_73, wX6_settles_74, wX6_settles_75, wX6_settles_76, wX6_settles_78, uX6_settles_78, wX6_settles_80, wX6_settles_83, wX6_settles_84, wX6_settles_87, wX6_settles_89, wX6_settles_91, wX6_settles_92, wX6_settles_94, wX6_settles_96, wX6_settles_97, wX6_settles_98, wX6_settles_100, wX6_settles_102, wX6_settles_103, wX6_settles_105, wX6_settles_108, wX6_settles_111, wX6_settles_112, amSI_1, amSI_2, amSI_3, amSI_s, amU_at, amIsR_ref, amIsR_null, amIsR_rf, amRf_some, amRf_none, amClr_int, amClr_ref, amClr_null, amClr_long, amClr_ra, amClr_rf, amFit_int, amFit_oref, amFit_aref, amFit_onull, amFit_anull, amOptSome, amOptNone, List.cons_append, List.nil_append, true_and, and_true, true_implies, not_true_eq_false, not_false_eq_true, false_implies, and_self, Nat.add_zero, Nat.zero_add, ne_eq, Prod.mk.injEq, amC01_0, amC01_1, amC01_nb, amNb0, amNb1, amTcpI_d, Nat.reduceLeDiff, Nat.reduceAdd, Nat.reduceSub, Nat.reduceEqDiff, Nat.le_refl, amN0le, hR.s, hR.r]
    have hA1 : mdSys (amSI h m1) S := hA.fr f1
    refine ⟨fun z => ⟨S, rfl, hA1, fun m2 f2 o2 r2 _ _ => ?_⟩, fun z => ⟨S, rfl, hA1, fun m2 f2 b1 _ _ => ?_⟩⟩
    · have z' : ¬ w = nI 0 := z
      have es : settleL S w = S.grown.2.2 := if_neg z'
      have gp := grown_perm hO
      have hp : mdPre (amSI h m2) S S.grown.2.2 := (hA1.fr f2).pre o2 gp.length_eq (fun x hx => hO.lt x (gp.mem_iff.mp hx))
      refine goX6_settles hF 60 ?_
      simp (disch := omega) only [wX6_settles_0, uX6_settles_0, wX6_settles_1, wX6_settles_2, wX6_settles_3, wX6_settles_4, wX6_settles_7, wX6_settles_10, wX6_settles_11, wX6_settles_12, wX6_settles_13, wX6_settles_16, uX6_settles_16, wX6_settles_17, wX6_settles_20, wX6_settles_21, wX6_settles_22, wX6_settles_23, wX6_settles_24, wX6_settles_27, wX6_settles_28, wX6_settles_31, uX6_settles_31, wX6_settles_32, wX6_settles_35, wX6_settles_36, wX6_settles_39, wX6_settles_40, wX6_settles_43, uX6_settles_43, wX6_settles_44, wX6_settles_47, wX6_settles_48, uX6_settles_48, wX6_settles_49, wX6_settles_52, wX6_settles_53, wX6_settles_54, wX6_settles_57, wX6_settles_58, wX6_settles_59, wX6_settles_62, wX6_settles_64, wX6_settles_65, wX6_settles_66, wX6_settles_68, wX6_settles_69, wX6_settles_72, wX6_settles_73, wX6_settles_74, wX6_settles_75, wX6_settles_76, wX6_settles_78, uX6_settles_78, wX6_settles_80, wX6_settles_83, wX6_settles_84, wX6_settles_87, wX6_settles_89, wX6_settles_91, wX6_settles_92, wX6_settles_94, wX6_settles_96, wX6_settles_97, wX6_settles_98, wX6_settles_100, wX6_settles_102, wX6_settles_103, wX6_settles_105, wX6_settles_108, wX6_settles_111, wX6_settles_112, amSI_1, amSI_2, amSI_3, amSI_s, amU_at, amIsR_ref, amIsR_null, amIsR_rf, amRf_some, amRf_none, amClr_int, amClr_ref, amClr_null, amClr_long, amClr_ra, amClr_rf, amFit_int, amFit_oref, amFit_aref, amFit_onull, amFit_anull, amOptSome, amOptNone, List.cons_append, List.nil_append, true_and, and_true, true_implies, not_true_eq_false, not_false_eq_true, false_implies, and_self, Nat.add_zero, Nat.zero_add, ne_eq, Prod.mk.injEq, amC01_0, amC01_1, amC01_nb, amNb0, amNb1, amTcpI_d, Nat.reduceLeDiff, Nat.reduceAdd, Nat.reduceSub, Nat.reduceEqDiff, Nat.le_refl, amN0le, hR.s, hR.r]
      refine mNumber hp ?_
      rw [es] at f48
      simp (disch := omega) only [wX6_settles_0, uX6_settles_0, wX6_settles_1, wX6_settles_2, wX6_settles_3, wX6_settles_4, wX6_settles_7, wX6_settles_10, wX6_settles_11, wX6_settles_12, wX6_settles_13, wX6_settles_16, uX6_settles_16, wX6_settles_17, wX6_settles_20, wX6_settles_21, wX6_settles_22, wX6_settles_23, wX6_settles_24, wX6_settles_27, wX6_settles_28, wX6_settles_31, uX6_settles_31, wX6_settles_32, wX6_settles_35, wX6_settles_36, wX6_settles_39, wX6_settles_40, wX6_settles_43, uX6_settles_43, wX6_settles_44, wX6_settles_47, wX6_settles_48, uX6_settles_48, wX6_settles_49, wX6_settles_52, wX6_settles_53, wX6_settles_54, wX6_settles_57, wX6_settles_58, wX6_settles_59, wX6_settles_62, wX6_settles_64, wX6_settles_65, wX6_settles_66, wX6_settles_68, wX6_settles_69, wX6_settles_72, wX6_settles_73, wX6_settles_74, wX6_settles_75, wX6_settles_76, wX6_settles_78, uX6_settles_78, wX6_settles_80, wX6_settles_83, wX6_settles_84, wX6_settles_87, wX6_settles_89, wX6_settles_91, wX6_settles_92, wX6_settles_94, wX6_settles_96, wX6_settles_97, wX6_settles_98, wX6_settles_100, wX6_settles_102, wX6_settles_103, wX6_settles_105, wX6_settles_108, wX6_settles_111, wX6_settles_112, amSI_1, amSI_2, amSI_3, amSI_s, amU_at, amIsR_ref, amIsR_null, amIsR_rf, amRf_some, amRf_none, amClr_int, amClr_ref, amClr_null, amClr_long, amClr_ra, amClr_rf, amFit_int, amFit_oref, amFit_aref, amFit_onull, amFit_anull, amOptSome, amOptNone, List.cons_append, List.nil_append, true_and, and_true, true_implies, not_true_eq_false, not_false_eq_true, false_implies, and_self, Nat.add_zero, Nat.zero_add, ne_eq, Prod.mk.injEq, amC01_0, amC01_1, amC01_nb, amNb0, amNb1, amTcpI_d, Nat.reduceLeDiff, Nat.reduceAdd, Nat.reduceSub, Nat.reduceEqDiff, Nat.le_refl, amN0le, hR.s, hR.r]
      exact f48 m2 _ _ hp.2.1 (f1.tr f2).mb.ma
    · have z' : w = nI 0 := z
      have es : settleL S w = S.best.2.2 := if_pos z'
      rw [es] at f48
      refine goX6_settles hF 60 ?_
      simp (disch := omega) only [wX6_settles_0, uX6_settles_0, wX6_settles_1, wX6_settles_2, wX6_settles_3, wX6_settles_4, wX6_settles_7, wX6_settles_10, wX6_settles_11, wX6_settles_12, wX6_settles_13, wX6_settles_16, uX6_settles_16, wX6_settles_17, wX6_settles_20, wX6_settles_21, wX6_settles_22, wX6_settles_23, wX6_settles_24, wX6_settles_27, wX6_settles_28, wX6_settles_31, uX6_settles_31, wX6_settles_32, wX6_settles_35, wX6_settles_36, wX6_settles_39, wX6_settles_40, wX6_settles_43, uX6_settles_43, wX6_settles_44, wX6_settles_47, wX6_settles_48, uX6_settles_48, wX6_settles_49, wX6_settles_52, wX6_settles_53, wX6_settles_54, wX6_settles_57, wX6_settles_58, wX6_settles_59, wX6_settles_62, wX6_settles_64, wX6_settles_65, wX6_settles_66, wX6_settles_68, wX6_settles_69, wX6_settles_72, wX6_settles_73, wX6_settles_74, wX6_settles_75, wX6_settles_76, wX6_settles_78, uX6_settles_78, wX6_settles_80, wX6_settles_83, wX6_settles_84, wX6_settles_87, wX6_settles_89, wX6_settles_91, wX6_settles_92, wX6_settles_94, wX6_settles_96, wX6_settles_97, wX6_settles_98, wX6_settles_100, wX6_settles_102, wX6_settles_103, wX6_settles_105, wX6_settles_108, wX6_settles_111, wX6_settles_112, amSI_1, amSI_2, amSI_3, amSI_s, amU_at, amIsR_ref, amIsR_null, amIsR_rf, amRf_some, amRf_none, amClr_int, amClr_ref, amClr_null, amClr_long, amClr_ra, amClr_rf, amFit_int, amFit_oref, amFit_aref, amFit_onull, amFit_anull, amOptSome, amOptNone, List.cons_append, List.nil_append, true_and, and_true, true_implies, not_true_eq_false, not_false_eq_true, false_implies, and_self, Nat.add_zero, Nat.zero_add, ne_eq, Prod.mk.injEq, amC01_0, amC01_1, amC01_nb, amNb0, amNb1, amTcpI_d, Nat.reduceLeDiff, Nat.reduceAdd, Nat.reduceSub, Nat.reduceEqDiff, Nat.le_refl, amN0le, hR.s, hR.r, b1]
      exact f48 m2 _ _ (hA1.fb f2).2.1 (f1.mb.tr f2).ma
  · rw [stlR, if_pos hw] at hK
    have key := hK h.2.1 hS (maFr.rf _)
    refine goX6_settles hF 60 ?_
    simp (disch := omega) only [wX6_settles_0, uX6_settles_0, wX6_settles_1, wX6_settles_2, wX6_settles_3, wX6_settles_4, wX6_settles_7, wX6_settles_10, wX6_settles_11, wX6_settles_12, wX6_settles_13, wX6_settles_16, uX6_settles_16, wX6_settles_17, wX6_settles_20, wX6_settles_21, wX6_settles_22, wX6_settles_23, wX6_settles_24, wX6_settles_27, wX6_settles_28, wX6_settles_31, uX6_settles_31, wX6_settles_32, wX6_settles_35, wX6_settles_36, wX6_settles_39, wX6_settles_40, wX6_settles_43, uX6_settles_43, wX6_settles_44, wX6_settles_47, wX6_settles_48, uX6_settles_48, wX6_settles_49, wX6_settles_52, wX6_settles_53, wX6_settles_54, wX6_settles_57, wX6_settles_58, wX6_settles_59, wX6_settles_62, wX6_settles_64, wX6_settles_65, wX6_settles_66, wX6_settles_68, wX6_settles_69, wX6_settles_72, wX6_settles_73, wX6_settles_74, wX6_settles_75, wX6_settles_76, wX6_settles_78, uX6_settles_78, wX6_settles_80, wX6_settles_83, wX6_settles_84, wX6_settles_87, wX6_settles_89, wX6_settles_91, wX6_settles_92, wX6_settles_94, wX6_settles_96, wX6_settles_97, wX6_settles_98, wX6_settles_100, wX6_settles_102, wX6_settles_103, wX6_settles_105, wX6_settles_108, wX6_settles_111, wX6_settles_112, amSI_1, amSI_2, amSI_3, amSI_s, amU_at, amIsR_ref, amIsR_null, amIsR_rf, amRf_some, amRf_none, amClr_int, amClr_ref, amClr_null, amClr_long, amClr_ra, amClr_rf, amFit_int, amFit_oref, amFit_aref, amFit_onull, amFit_anull, amOptSome, amOptNone, List.cons_append, List.nil_append, true_and, and_true, true_implies, not_true_eq_false, not_false_eq_true, false_implies, and_self, Nat.add_zero, Nat.zero_add, ne_eq, Prod.mk.injEq, amC01_0, amC01_1, amC01_nb, amNb0, amNb1, amTcpI_d, Nat.reduceLeDiff, Nat.reduceAdd, Nat.reduceSub, Nat.reduceEqDiff, Nat.le_refl, amN0le, hR.s, hR.r, tX6_in_d, hw]
    exact amRet.of (by decide) (by decide) key
theorem tX6_settles_d {t : Nat} {w : Int32} {h : amH} {K : Option Value → amH → Prop} : tX6_settles [.ref t, .int w] h K = ∃ S : HS, t = (124 : Nat) ∧ mdSys h S ∧ ∀ m', RwIs m' 125 0 (stlR S w).1 → maFr h.2.1 m' → K (some (.int (stlR S w).2)) (amSI h m') := rfl
/-- an act, as the inner one says -/
def actedR (X : XS) (r : HS × Int32) : XS × Int32 := ((r.1, actU X.2.1 X.1 r.2, X.2.2), r.2)
theorem actedR_no (X : XS) {c : Int32} (h : c < 0) : actedR X (X.1, c) = (X, c) := by
  unfold actedR actU
  rw [if_pos h]
theorem actedR_ok (X : XS) (S : HS) {n : Nat} (h : n < 2147483648) : actedR X (S, nI n) = (actX X S, nI n) := by
  unfold actedR actU
  rw [if_neg (nI_pos (by omega))]
  rfl
theorem bookR_eq {X : XS} {x : Int32} (h : hsOk X.1) : bookR X x = actedR X (addR X.1 x) := by
  have n7 := h.n7
  unfold bookR addR
  split
  · exact (actedR_no X (by decide)).symm
  · split
    · exact (actedR_no X (by decide)).symm
    · exact (actedR_ok X _ (by omega)).symm
theorem wordsR_eq {X : XS} {k x : Int32} (h : hsOk X.1) : wordsR X k x = actedR X (chgR X.1 k x) := by
  have hx := h.X.at k.toNatClampNeg
  unfold wordsR chgR
  split
  · exact (actedR_no X (by decide)).symm
  · split
    · exact (actedR_no X (by decide)).symm
    · split
      · exact (actedR_no X (by decide)).symm
      · exact (actedR_ok X _ (by omega)).symm
theorem loseR_eq {X : XS} {k : Int32} (h : hsOk X.1) : loseR X k = actedR X (lseR X.1 k) := by
  have n7 := h.n7
  unfold loseR lseR
  split
  · exact (actedR_ok X _ (by omega)).symm
  · exact (actedR_no X (by decide)).symm
theorem priorR_eq {X : XS} {x : Int32} (h : hsOk X.1) : priorR X x = actedR X (setR X.1 x) := by
  have p := h.B.2.2.2
  unfold priorR setR
  split
  · exact (actedR_no X (by decide)).symm
  · split
    · exact (actedR_no X (by decide)).symm
    · exact (actedR_ok X _ (by omega)).symm
theorem aheadR_eq {X : XS} {a b : Int32} (h : hsOk X.1) : aheadR X a b = actedR X (putR X.1 a b) := by
  unfold aheadR putR
  split
  · exact (actedR_no X (by decide)).symm
  · split
    · exact (actedR_no X (by decide)).symm
    · split
      · exact (actedR_ok X _ (by decide)).symm
      · exact (actedR_ok X _ (by decide)).symm
theorem tellR_eq {X : XS} {w v : Int32} (h : hsOk X.1) : tellR X w v = actedR X (tllR X.1 w v) := by
  have f := figN_lt h w.toNatClampNeg
  unfold tellR tllR
  split
  · exact (actedR_no X (by decide)).symm
  · split
    · exact (actedR_no X (by decide)).symm
    · exact (actedR_ok X _ (by omega)).symm
theorem moveR_eq {X : XS} {p q : Int32} (h : hsOk X.1) : moveR X p q = actedR X (shfR X.1 p q) := by
  unfold moveR shfR
  split
  · exact (actedR_no X (by decide)).symm
  · split
    · exact (actedR_no X (by decide)).symm
    · next c _ =>
      have c := Classical.not_not.mp c
      have n7 := h.n7
      have := h.lt _ (getD_mem (l := X.1.ord) (p := p.toNatClampNeg) c.1.1)
      exact (actedR_ok X _ (by omega)).symm
theorem settleR_eq {X : XS} {w : Int32} (h : hsOk X.1) : settleR X w = actedR X (stlR X.1 w) := by
  have n7 := h.n7
  have pm : List.Perm (settleL X.1 w) X.1.ord := by
    unfold settleL
    split
    · exact best_perm h
    · exact grown_perm h
  have len := pm.length_eq
  have nl := numL_small (l := settleL X.1 w) (by omega) (fun x hx => by have := h.lt _ (pm.mem_iff.mp hx); omega)
  unfold settleR stlR
  split
  · exact (actedR_no X (by decide)).symm
  · split
    · exact (actedR_no X (by decide)).symm
    · exact (actedR_ok X _ (by omega)).symm
theorem mdSys.hold {h : amH} {S : HS} (q : mdSys h S) {m : Nat → Nat → Int32} (f : ∀ i : Nat, i ≠ 142 → m i = h.2.1 i) : mdSys (amSI h m) S := ⟨q.1, q.2.1.kept (f 125 (by decide)), q.2.2⟩
theorem MdW.first {h : amH} {X : XS} (w : MdW h X) {m1 m2 : Nat → Nat → Int32} (q1 : ∀ p : Nat, p < 27 → m1 142 p = h.2.1 125 p) (r2 : maFr m1 m2) : RwIs m2 142 0 X.1 := w.2.1.copy (fun k hk => by rw [r2.1 142 (by decide) (by decide) (by decide), Nat.zero_add]; exact q1 k hk)
theorem MdW.past {h : amH} {X : XS} (w : MdW h X) {m1 m2 : Nat → Nat → Int32} (q2 : ∀ i : Nat, i ≠ 142 → m1 i = h.2.1 i) (r2 : maFr m1 m2) : UnM m2 X.2.1 := w.2.2.1.kept (by rw [r2.2 2 (by decide), q2 124 (by decide)]) (by rw [r2.1 126 (by decide) (by decide) (by decide), q2 126 (by decide)])
theorem MdW.act {h : amH} {X : XS} (w : MdW h X) {m1 m2 m3 : Nat → Nat → Int32} {S' : HS} {U' : List HS} (q2 : ∀ i : Nat, i ≠ 142 → m1 i = h.2.1 i) (r1 : RwIs m2 125 0 S') (r2 : maFr m1 m2) (s1 : UnM m3 U') (s2 : ∀ i : Nat, i ≠ 124 → i ≠ 126 → m3 i = m2 i) (s3 : ∀ j : Nat, j ≠ 2 → m3 124 j = m2 124 j) : msFr h (amSI h m3) ∧ MdW (amSI h m3) (S', U', X.2.2) := by
  have e : ∀ i : Nat, i ≠ 124 → i ≠ 125 → i ≠ 126 → i ≠ 142 → (i < 134 ∨ 141 ≤ i) → m3 i = h.2.1 i := fun i a b c d f => by rw [s2 i a c, r2.1 i a b f, q2 i d]
  have e4 : ∀ j : Nat, j ≠ 2 → (j < 19 ∨ 22 ≤ j) → m3 124 j = h.2.1 124 j := fun j a b => by rw [s3 j a, r2.2 j b, q2 124 (by decide)]
  refine ⟨msFr.si (fun i hi => e i (by omega) (by omega) (by omega) (by omega) (by omega)), w.1, r1.kept (s2 125 (by decide) (by decide)), s1, w.2.2.2.1.kept (e4 5 (by decide) (by decide)) (e 127 (by decide) (by decide) (by decide) (by decide) (by decide)) (e 128 (by decide) (by decide) (by decide) (by decide) (by decide)), w.2.2.2.2.1.kept (e4 7 (by decide) (by decide)) (e 129 (by decide) (by decide) (by decide) (by decide) (by decide)), w.2.2.2.2.2.kept (e 130 (by decide) (by decide) (by decide) (by decide) (by decide)) (e 131 (by decide) (by decide) (by decide) (by decide) (by decide)) rfl⟩
def tX6_book : amT := fun as h K => match as with
  | [.ref t, .int x] => ∃ X : XS, t = (124 : Nat) ∧ MdW h X ∧ hsOk X.1 ∧ ∀ h', msFr h h' → MdW h' (bookR X x).1 → K (some (.int (bookR X x).2)) h'
  | _ => False
/-! ReadingStagesModel.book(I)I -/
def kX6_book : Nat → Bool := fun pc => pc == 4 || pc == 10 || pc == 13
def rX6_book : List (Nat × amS) := [(1, 1, 0, 0, (amRecv 6 tX6_holds)), (7, 2, 0, 0, (amRecv 6 tX6_adds)), (10, 2, 0, 0, (amRecv 6 tX6_acted))]
def eX6_book (ret : Option Value → amH → Nat → Nat → Prop) (F : amX) : Nat → amX := amWp cX6_book kX6_book (amLk rX6_book) (some .int) 0 0 ret F
def sX6_book (ret : Option Value → amH → Nat → Nat → Prop) (F : amX) : Nat → amX := amWs cX6_book kX6_book (amLk rX6_book) (some .int) 0 0 ret F
theorem wX6_book_0 {ret F n h} {v0 v1 st} : eX6_book ret F (n + 1) 0 [v0, v1] (st) h 0 0 = (amIsR v0 ∧ eX6_book ret F n 1 [v0, v1] (v0 :: st) h 0 0) := (amWp_dec rfl dX6_book_0 rfl).trans rfl
theorem uX6_book_0 {ret F n h} {v0 v1 st} : sX6_book ret F n 0 [v0, v1] (st) h 0 0 = (amIsR v0 ∧ eX6_book ret F n 1 [v0, v1] (v0 :: st) h 0 0) := (amWs_dec dX6_book_0 rfl).trans rfl
theorem wX6_book_1 {ret F n h} {v0 v1 x0} : eX6_book ret F (n + 1) 1 [v0, v1] (.ref x0 :: []) h 0 0 = (h.1 x0 = (0, 6) ∧ tX6_holds [.ref x0] h (fun v h => eX6_book ret F n 4 [v0, v1] (v.toList ++ ([])) h 0 0)) := (amWp_dec rfl dX6_book_1 rfl).trans (amS4 (Nat.le_of_ble_eq_true rfl) (Nat.le_of_ble_eq_true rfl) (Nat.le_of_ble_eq_true rfl) (Nat.le_of_ble_eq_true rfl))
theorem wX6_book_4 {ret F n ls st h k z} : eX6_book ret F (n + 1) 4 ls st h k z = F 4 ls st h k z := amWp_cut rfl
theorem uX6_book_4 {ret F n h} {v0 v1 st} : sX6_book ret F n 4 [v0, v1] (st) h 0 0 = (amIsR v0 ∧ eX6_book ret F n 5 [v0, v1] (v0 :: st) h 0 0) := (amWs_dec dX6_book_4 rfl).trans rfl
theorem wX6_book_5 {ret F n h} {v0 v1 st} : eX6_book ret F (n + 1) 5 [v0, v1] (st) h 0 0 = (amIsR v0 ∧ eX6_book ret F n 6 [v0, v1] (v0 :: st) h 0 0) := (amWp_dec rfl dX6_book_5 rfl).trans rfl
theorem wX6_book_6 {ret F n h} {v0 st x} : eX6_book ret F (n + 1) 6 [v0, .int x] (st) h 0 0 = (eX6_book ret F n 7 [v0, .int x] (.int x :: st) h 0 0) := (amWp_dec rfl dX6_book_6 rfl).trans rfl
theorem wX6_book_7 {ret F n h} {v0 v1 x1 x0 r0} : eX6_book ret F (n + 1) 7 [v0, v1] (.int x1 :: .ref x0 :: r0 :: []) h 0 0 = (h.1 x0 = (0, 6) ∧ tX6_adds [.ref x0, .int x1] h (fun v h => eX6_book ret F n 10 [v0, v1] (v.toList ++ (r0 :: [])) h 0 0)) := (amWp_dec rfl dX6_book_7 rfl).trans (amS4 (Nat.le_of_ble_eq_true rfl) (Nat.le_of_ble_eq_true rfl) (Nat.le_of_ble_eq_true rfl) (Nat.le_of_ble_eq_true rfl))
theorem wX6_book_10 {ret F n ls st h k z} : eX6_book ret F (n + 1) 10 ls st h k z = F 10 ls st h k z := amWp_cut rfl
theorem uX6_book_10 {ret F n h} {v0 v1 x1 x0} : sX6_book ret F n 10 [v0, v1] (.int x1 :: .ref x0 :: []) h 0 0 = (h.1 x0 = (0, 6) ∧ tX6_acted [.ref x0, .int x1] h (fun v h => eX6_book ret F n 13 [v0, v1] (v.toList ++ ([])) h 0 0)) := (amWs_dec dX6_book_10 rfl).trans (amS4 (Nat.le_of_ble_eq_true rfl) (Nat.le_of_ble_eq_true rfl) (Nat.le_of_ble_eq_true rfl) (Nat.le_of_ble_eq_true rfl))
theorem wX6_book_13 {ret F n ls st h k z} : eX6_book ret F (n + 1) 13 ls st h k z = F 13 ls st h k z := amWp_cut rfl
theorem uX6_book_13 {ret F n h} {v0 v1 x} : sX6_book ret F n 13 [v0, v1] ([.int x]) h 0 0 = (ret (some (.int x)) h 0 0) := (amWs_dec dX6_book_13 rfl).trans (amTrue ⟨_, rfl, rfl⟩)
theorem evX6_book (l : Launch) (G : amG) : ∀ pc S i sz, amLk rX6_book pc = some S → decode cX6_book pc = .ok (i, sz) → amSiteP pc G l yX6_book.cls yX6_book.name yX6_book.desc (amRm 4 0 0) i sz S.1 S.2.1 S.2.2.1 S.2.2.2 := amLk_ok (by
  refine List.forall_mem_cons.mpr ⟨⟨_, _, dX6_book_1, amSite.P (amSiteV (C := RX6) (metX6_holds l G) rfl (by decide) (by decide) (lw_V q1509 q1511 qs60 q94 q1512) ⟨_, rfl, rfl⟩ ⟨rfl, by decide +kernel, by decide +kernel, by decide +kernel⟩)⟩, ?_⟩
  refine List.forall_mem_cons.mpr ⟨⟨_, _, dX6_book_7, amSite.P (amSiteV (C := RX6) (metX6_adds l G) rfl (by decide) (by decide) (lw_V q1513 q1515 qs61 q94 q1516) ⟨_, rfl, rfl⟩ ⟨rfl, by decide +kernel, by decide +kernel, by decide +kernel⟩)⟩, ?_⟩
  refine List.forall_mem_cons.mpr ⟨⟨_, _, dX6_book_10, amSite.P (amSiteV (C := RX6) (metX6_acted l G) rfl (by decide) (by decide) (lw_V q1521 q1523 qs62 q94 q1524) ⟨_, rfl, rfl⟩ ⟨rfl, by decide +kernel, by decide +kernel, by decide +kernel⟩)⟩, ?_⟩
  exact fun _ h => absurd h List.not_mem_nil)
theorem goX6_book {ret F} (hF : amCld cX6_book kX6_book (amLk rX6_book) (some .int) 0 0 ret F) (n : Nat) {pc ls st h k z} (q : sX6_book ret F n pc ls st h k z) : F pc ls st h k z := hF.1 n pc ls st h k z q
theorem metX6_book (l : Launch) (G : amG) : amMet l G yX6_book (ws_ yX6_book cX6_book 2 (some .int)) 4 0 0 tX6_book := by
  refine amMet_of (cut := kX6_book) (by decide +kernel) (evX6_book l G) ?_
  intro as h K hT
  match as, hT with
  | [.ref t, .int x], ⟨X, e1, w, hO, hK⟩ =>
  refine ⟨Nat.le_of_ble_eq_true rfl, fun F hF => ?_⟩
  show F 0 [.ref t, .int x] [] h 0 0
  obtain ⟨t, rfl⟩ : ∃ i : Nat, i = t := ⟨_, rfl⟩
  subst e1
  have hR := w.1
  rw [bookR_eq hO] at hK
  refine goX6_book hF 40 ?_
  simp (disch := omega) only [wX6_book_0, uX6_book_0, wX6_book_1, wX6_book_4, uX6_book_4, wX6_book_5, wX6_book_6, wX6_book_7, wX6_book_10, uX6_book_10, wX6_book_13, uX6_book_13, amSI_1, amSI_2, amSI_3, amSI_s, amU_at, amIsR_ref, amIsR_null, amIsR_rf, amRf_some, amRf_none, amClr_int, amClr_ref, amClr_null, amClr_long, amClr_ra, amClr_rf, amFit_int, amFit_oref, amFit_aref, amFit_onull, amFit_anull, amOptSome, amOptNone, List.cons_append, List.nil_append, true_and, and_true, true_implies, not_true_eq_false, not_false_eq_true, false_implies, and_self, Nat.add_zero, Nat.zero_add, ne_eq, Prod.mk.injEq, amC01_0, amC01_1, amC01_nb, amNb0, amNb1, amTcpI_d, Nat.reduceLeDiff, Nat.reduceAdd, Nat.reduceSub, Nat.reduceEqDiff, Nat.le_refl, amN0le, hR.s, hR.r]
  refine ⟨rfl, hR, fun m1 q1 q2 => ?_⟩
  refine goX6_book hF 40 ?_
  simp (disch := omega) only [wX6_book_0, uX6_book_0, wX6_book_1, wX6_book_4, uX6_book_4, wX6_book_5, wX6_book_6, wX6_book_7, wX6_book_10, uX6_book_10, wX6_book_13, uX6_book_13, amSI_1, amSI_2, amSI_3, amSI_s, amU_at, amIsR_ref, amIsR_null, amIsR_rf, amRf_some, amRf_none, amClr_int, amClr_ref, amClr_null, amClr_long, amClr_ra, amClr_rf, amFit_int, amFit_oref, amFit_aref, amFit_onull, amFit_anull, amOptSome, amOptNone, List.cons_append, List.nil_append, true_and, and_true, true_implies, not_true_eq_false, not_false_eq_true, false_implies, and_self, Nat.add_zero, Nat.zero_add, ne_eq, Prod.mk.injEq, amC01_0, amC01_1, amC01_nb, amNb0, amNb1, amTcpI_d, Nat.reduceLeDiff, Nat.reduceAdd, Nat.reduceSub, Nat.reduceEqDiff, Nat.le_refl, amN0le, hR.s, hR.r]
  refine ⟨X.1, rfl, (w.sys hO).hold q2, fun m2 r1 r2 => ?_⟩
  refine goX6_book hF 40 ?_
  simp (disch := omega) only [wX6_book_0, uX6_book_0, wX6_book_1, wX6_book_4, uX6_book_4, wX6_book_5, wX6_book_6, wX6_book_7, wX6_book_10, uX6_book_10, wX6_book_13, uX6_book_13, amSI_1, amSI_2, amSI_3, amSI_s, amU_at, amIsR_ref, amIsR_null, amIsR_rf, amRf_some, amRf_none, amClr_int, amClr_ref, amClr_null, amClr_long, amClr_ra, amClr_rf, amFit_int, amFit_oref, amFit_aref, amFit_onull, amFit_anull, amOptSome, amOptNone, List.cons_append, List.nil_append, true_and, and_true, true_implies, not_true_eq_false, not_false_eq_true, false_implies, and_self, Nat.add_zero, Nat.zero_add, ne_eq, Prod.mk.injEq, amC01_0, amC01_1, amC01_nb, amNb0, amNb1, amTcpI_d, Nat.reduceLeDiff, Nat.reduceAdd, Nat.reduceSub, Nat.reduceEqDiff, Nat.le_refl, amN0le, hR.s, hR.r]
  refine ⟨X.1, X.2.1, rfl, hR, w.first q1 r2, w.past q2 r2, fun m3 s1 s2 s3 => ?_⟩
  obtain ⟨g1, g2⟩ := w.act q2 r1 r2 s1 s2 s3
  have key := hK _ g1 g2
  refine goX6_book hF 40 ?_
  simp (disch := omega) only [wX6_book_0, uX6_book_0, wX6_book_1, wX6_book_4, uX6_book_4, wX6_book_5, wX6_book_6, wX6_book_7, wX6_book_10, uX6_book_10, wX6_book_13, uX6_book_13, amSI_1, amSI_2, amSI_3, amSI_s, amU_at, amIsR_ref, amIsR_null, amIsR_rf, amRf_some, amRf_none, amClr_int, amClr_ref, amClr_null, amClr_long, amClr_ra, amClr_rf, amFit_int, amFit_oref, amFit_aref, amFit_onull, amFit_anull, amOptSome, amOptNone, List.cons_append, List.nil_append, true_and, and_true, true_implies, not_true_eq_false, not_false_eq_true, false_implies, and_self, Nat.add_zero, Nat.zero_add, ne_eq, Prod.mk.injEq, amC01_0, amC01_1, amC01_nb, amNb0, amNb1, amTcpI_d, Nat.reduceLeDiff, Nat.reduceAdd, Nat.reduceSub, Nat.reduceEqDiff, Nat.le_refl, amN0le, hR.s, hR.r]
  exact amRet.of (by decide) (by decide) key
theorem tX6_book_d {t : Nat} {x : Int32} {h : amH} {K : Option Value → amH → Prop} : tX6_book [.ref t, .int x] h K = ∃ X : XS, t = (124 : Nat) ∧ MdW h X ∧ hsOk X.1 ∧ ∀ h', msFr h h' → MdW h' (bookR X x).1 → K (some (.int (bookR X x).2)) h' := rfl
def tX6_words : amT := fun as h K => match as with
  | [.ref t, .int k, .int x] => ∃ X : XS, t = (124 : Nat) ∧ MdW h X ∧ hsOk X.1 ∧ ∀ h', msFr h h' → MdW h' (wordsR X k x).1 → K (some (.int (wordsR X k x).2)) h'
  | _ => False
/-! ReadingStagesModel.words(II)I -/
def kX6_words : Nat → Bool := fun pc => pc == 4 || pc == 11 || pc == 14
def rX6_words : List (Nat × amS) := [(1, 1, 0, 0, (amRecv 6 tX6_holds)), (8, 3, 0, 0, (amRecv 6 tX6_changes)), (11, 2, 0, 0, (amRecv 6 tX6_acted))]
def eX6_words (ret : Option Value → amH → Nat → Nat → Prop) (F : amX) : Nat → amX := amWp cX6_words kX6_words (amLk rX6_words) (some .int) 0 0 ret F
def sX6_words (ret : Option Value → amH → Nat → Nat → Prop) (F : amX) : Nat → amX := amWs cX6_words kX6_words (amLk rX6_words) (some .int) 0 0 ret F
theorem wX6_words_0 {ret F n h} {v0 v1 v2 st} : eX6_words ret F (n + 1) 0 [v0, v1, v2] (st) h 0 0 = (amIsR v0 ∧ eX6_words ret F n 1 [v0, v1, v2] (v0 :: st) h 0 0) := (amWp_dec rfl dX6_words_0 rfl).trans rfl
theorem uX6_words_0 {ret F n h} {v0 v1 v2 st} : sX6_words ret F n 0 [v0, v1, v2] (st) h 0 0 = (amIsR v0 ∧ eX6_words ret F n 1 [v0, v1, v2] (v0 :: st) h 0 0) := (amWs_dec dX6_words_0 rfl).trans rfl
theorem wX6_words_1 {ret F n h} {v0 v1 v2 x0} : eX6_words ret F (n + 1) 1 [v0, v1, v2] (.ref x0 :: []) h 0 0 = (h.1 x0 = (0, 6) ∧ tX6_holds [.ref x0] h (fun v h => eX6_words ret F n 4 [v0, v1, v2] (v.toList ++ ([])) h 0 0)) := (amWp_dec rfl dX6_words_1 rfl).trans (amS4 (Nat.le_of_ble_eq_true rfl) (Nat.le_of_ble_eq_true rfl) (Nat.le_of_ble_eq_true rfl) (Nat.le_of_ble_eq_true rfl))
theorem wX6_words_4 {ret F n ls st h k z} : eX6_words ret F (n + 1) 4 ls st h k z = F 4 ls st h k z := amWp_cut rfl
theorem uX6_words_4 {ret F n h} {v0 v1 v2 st} : sX6_words ret F n 4 [v0, v1, v2] (st) h 0 0 = (amIsR v0 ∧ eX6_words ret F n 5 [v0, v1, v2] (v0 :: st) h 0 0) := (amWs_dec dX6_words_4 rfl).trans rfl
theorem wX6_words_5 {ret F n h} {v0 v1 v2 st} : eX6_words ret F (n + 1) 5 [v0, v1, v2] (st) h 0 0 = (amIsR v0 ∧ eX6_words ret F n 6 [v0, v1, v2] (v0 :: st) h 0 0) := (amWp_dec rfl dX6_words_5 rfl).trans rfl
theorem wX6_words_6 {ret F n h} {v0 v2 st x} : eX6_words ret F (n + 1) 6 [v0, .int x, v2] (st) h 0 0 = (eX6_words ret F n 7 [v0, .int x, v2] (.int x :: st) h 0 0) := (amWp_dec rfl dX6_words_6 rfl).trans rfl
theorem wX6_words_7 {ret F n h} {v0 v1 st x} : eX6_words ret F (n + 1) 7 [v0, v1, .int x] (st) h 0 0 = (eX6_words ret F n 8 [v0, v1, .int x] (.int x :: st) h 0 0) := (amWp_dec rfl dX6_words_7 rfl).trans rfl
theorem wX6_words_8 {ret F n h} {v0 v1 v2 x2 x1 x0 r0} : eX6_words ret F (n + 1) 8 [v0, v1, v2] (.int x2 :: .int x1 :: .ref x0 :: r0 :: []) h 0 0 = (h.1 x0 = (0, 6) ∧ tX6_changes [.ref x0, .int x1, .int x2] h (fun v h => eX6_words ret F n 11 [v0, v1, v2] (v.toList ++ (r0 :: [])) h 0 0)) := (amWp_dec rfl dX6_words_8 rfl).trans (amS4 (Nat.le_of_ble_eq_true rfl) (Nat.le_of_ble_eq_true rfl) (Nat.le_of_ble_eq_true rfl) (Nat.le_of_ble_eq_true rfl))
theorem wX6_words_11 {ret F n ls st h k z} : eX6_words ret F (n + 1) 11 ls st h k z = F 11 ls st h k z := amWp_cut rfl
theorem uX6_words_11 {ret F n h} {v0 v1 v2 x1 x0} : sX6_words ret F n 11 [v0, v1, v2] (.int x1 :: .ref x0 :: []) h 0 0 = (h.1 x0 = (0, 6) ∧ tX6_acted [.ref x0, .int x1] h (fun v h => eX6_words ret F n 14 [v0, v1, v2] (v.toList ++ ([])) h 0 0)) := (amWs_dec dX6_words_11 rfl).trans (amS4 (Nat.le_of_ble_eq_true rfl) (Nat.le_of_ble_eq_true rfl) (Nat.le_of_ble_eq_true rfl) (Nat.le_of_ble_eq_true rfl))
theorem wX6_words_14 {ret F n ls st h k z} : eX6_words ret F (n + 1) 14 ls st h k z = F 14 ls st h k z := amWp_cut rfl
theorem uX6_words_14 {ret F n h} {v0 v1 v2 x} : sX6_words ret F n 14 [v0, v1, v2] ([.int x]) h 0 0 = (ret (some (.int x)) h 0 0) := (amWs_dec dX6_words_14 rfl).trans (amTrue ⟨_, rfl, rfl⟩)
theorem evX6_words (l : Launch) (G : amG) : ∀ pc S i sz, amLk rX6_words pc = some S → decode cX6_words pc = .ok (i, sz) → amSiteP pc G l yX6_words.cls yX6_words.name yX6_words.desc (amRm 4 0 0) i sz S.1 S.2.1 S.2.2.1 S.2.2.2 := amLk_ok (by
  refine List.forall_mem_cons.mpr ⟨⟨_, _, dX6_words_1, amSite.P (amSiteV (C := RX6) (metX6_holds l G) rfl (by decide) (by decide) (lw_V q1509 q1511 qs60 q94 q1512) ⟨_, rfl, rfl⟩ ⟨rfl, by decide +kernel, by decide +kernel, by decide +kernel⟩)⟩, ?_⟩
  refine List.forall_mem_cons.mpr ⟨⟨_, _, dX6_words_8, amSite.P (amSiteV (C := RX6) (metX6_changes l G) rfl (by decide) (by decide) (lw_V q1533 q1535 qs64 q94 q1536) ⟨_, rfl, rfl⟩ ⟨rfl, by decide +kernel, by decide +kernel, by decide +kernel⟩)⟩, ?_⟩
  refine List.forall_mem_cons.mpr ⟨⟨_, _, dX6_words_11, amSite.P (amSiteV (C := RX6) (metX6_acted l G) rfl (by decide) (by decide) (lw_V q1521 q1523 qs62 q94 q1524) ⟨_, rfl, rfl⟩ ⟨rfl, by decide +kernel, by decide +kernel, by decide +kernel⟩)⟩, ?_⟩
  exact fun _ h => absurd h List.not_mem_nil)
theorem goX6_words {ret F} (hF : amCld cX6_words kX6_words (amLk rX6_words) (some .int) 0 0 ret F) (n : Nat) {pc ls st h k z} (q : sX6_words ret F n pc ls st h k z) : F pc ls st h k z := hF.1 n pc ls st h k z q
theorem metX6_words (l : Launch) (G : amG) : amMet l G yX6_words (ws_ yX6_words cX6_words 3 (some .int)) 4 0 0 tX6_words := by
  refine amMet_of (cut := kX6_words) (by decide +kernel) (evX6_words l G) ?_
  intro as h K hT
  match as, hT with
  | [.ref t, .int k, .int x], ⟨X, e1, w, hO, hK⟩ =>
  refine ⟨Nat.le_of_ble_eq_true rfl, fun F hF => ?_⟩
  show F 0 [.ref t, .int k, .int x] [] h 0 0
  obtain ⟨t, rfl⟩ : ∃ i : Nat, i = t := ⟨_, rfl⟩
  subst e1
  have hR := w.1
  rw [wordsR_eq hO] at hK
  refine goX6_words hF 40 ?_
  simp (disch := omega) only [wX6_words_0, uX6_words_0, wX6_words_1, wX6_words_4, uX6_words_4, wX6_words_5, wX6_words_6, wX6_words_7, wX6_words_8, wX6_words_11, uX6_words_11, wX6_words_14, uX6_words_14, amSI_1, amSI_2, amSI_3, amSI_s, amU_at, amIsR_ref, amIsR_null, amIsR_rf, amRf_some, amRf_none, amClr_int, amClr_ref, amClr_null, amClr_long, amClr_ra, amClr_rf, amFit_int, amFit_oref, amFit_aref, amFit_onull, amFit_anull, amOptSome, amOptNone, List.cons_append, List.nil_append, true_and, and_true, true_implies, not_true_eq_false, not_false_eq_true, false_implies, and_self, Nat.add_zero, Nat.zero_add, ne_eq, Prod.mk.injEq, amC01_0, amC01_1, amC01_nb, amNb0, amNb1, amTcpI_d, Nat.reduceLeDiff, Nat.reduceAdd, Nat.reduceSub, Nat.reduceEqDiff, Nat.le_refl, amN0le, hR.s, hR.r]
  refine ⟨rfl, hR, fun m1 q1 q2 => ?_⟩
  refine goX6_words hF 40 ?_
  simp (disch := omega) only [wX6_words_0, uX6_words_0, wX6_words_1, wX6_words_4, uX6_words_4, wX6_words_5, wX6_words_6, wX6_words_7, wX6_words_8, wX6_words_11, uX6_words_11, wX6_words_14, uX6_words_14, amSI_1, amSI_2, amSI_3, amSI_s, amU_at, amIsR_ref, amIsR_null, amIsR_rf, amRf_some, amRf_none, amClr_int, amClr_ref, amClr_null, amClr_long, amClr_ra, amClr_rf, amFit_int, amFit_oref, amFit_aref, amFit_onull, amFit_anull, amOptSome, amOptNone, List.cons_append, List.nil_append, true_and, and_true, true_implies, not_true_eq_false, not_false_eq_true, false_implies, and_self, Nat.add_zero, Nat.zero_add, ne_eq, Prod.mk.injEq, amC01_0, amC01_1, amC01_nb, amNb0, amNb1, amTcpI_d, Nat.reduceLeDiff, Nat.reduceAdd, Nat.reduceSub, Nat.reduceEqDiff, Nat.le_refl, amN0le, hR.s, hR.r]
  refine ⟨X.1, rfl, (w.sys hO).hold q2, fun m2 r1 r2 => ?_⟩
  refine goX6_words hF 40 ?_
  simp (disch := omega) only [wX6_words_0, uX6_words_0, wX6_words_1, wX6_words_4, uX6_words_4, wX6_words_5, wX6_words_6, wX6_words_7, wX6_words_8, wX6_words_11, uX6_words_11, wX6_words_14, uX6_words_14, amSI_1, amSI_2, amSI_3, amSI_s, amU_at, amIsR_ref, amIsR_null, amIsR_rf, amRf_some, amRf_none, amClr_int, amClr_ref, amClr_null, amClr_long, amClr_ra, amClr_rf, amFit_int, amFit_oref, amFit_aref, amFit_onull, amFit_anull, amOptSome, amOptNone, List.cons_append, List.nil_append, true_and, and_true, true_implies, not_true_eq_false, not_false_eq_true, false_implies, and_self, Nat.add_zero, Nat.zero_add, ne_eq, Prod.mk.injEq, amC01_0, amC01_1, amC01_nb, amNb0, amNb1, amTcpI_d, Nat.reduceLeDiff, Nat.reduceAdd, Nat.reduceSub, Nat.reduceEqDiff, Nat.le_refl, amN0le, hR.s, hR.r]
  refine ⟨X.1, X.2.1, rfl, hR, w.first q1 r2, w.past q2 r2, fun m3 s1 s2 s3 => ?_⟩
  obtain ⟨g1, g2⟩ := w.act q2 r1 r2 s1 s2 s3
  have key := hK _ g1 g2
  refine goX6_words hF 40 ?_
  simp (disch := omega) only [wX6_words_0, uX6_words_0, wX6_words_1, wX6_words_4, uX6_words_4, wX6_words_5, wX6_words_6, wX6_words_7, wX6_words_8, wX6_words_11, uX6_words_11, wX6_words_14, uX6_words_14, amSI_1, amSI_2, amSI_3, amSI_s, amU_at, amIsR_ref, amIsR_null, amIsR_rf, amRf_some, amRf_none, amClr_int, amClr_ref, amClr_null, amClr_long, amClr_ra, amClr_rf, amFit_int, amFit_oref, amFit_aref, amFit_onull, amFit_anull, amOptSome, amOptNone, List.cons_append, List.nil_append, true_and, and_true, true_implies, not_true_eq_false, not_false_eq_true, false_implies, and_self, Nat.add_zero, Nat.zero_add, ne_eq, Prod.mk.injEq, amC01_0, amC01_1, amC01_nb, amNb0, amNb1, amTcpI_d, Nat.reduceLeDiff, Nat.reduceAdd, Nat.reduceSub, Nat.reduceEqDiff, Nat.le_refl, amN0le, hR.s, hR.r]
  exact amRet.of (by decide) (by decide) key
theorem tX6_words_d {t : Nat} {k x : Int32} {h : amH} {K : Option Value → amH → Prop} : tX6_words [.ref t, .int k, .int x] h K = ∃ X : XS, t = (124 : Nat) ∧ MdW h X ∧ hsOk X.1 ∧ ∀ h', msFr h h' → MdW h' (wordsR X k x).1 → K (some (.int (wordsR X k x).2)) h' := rfl
def tX6_lose : amT := fun as h K => match as with
  | [.ref t, .int k] => ∃ X : XS, t = (124 : Nat) ∧ MdW h X ∧ hsOk X.1 ∧ ∀ h', msFr h h' → MdW h' (loseR X k).1 → K (some (.int (loseR X k).2)) h'
  | _ => False
/-! ReadingStagesModel.lose(I)I -/
def kX6_lose : Nat → Bool := fun pc => pc == 4 || pc == 10 || pc == 13
def rX6_lose : List (Nat × amS) := [(1, 1, 0, 0, (amRecv 6 tX6_holds)), (7, 2, 0, 0, (amRecv 6 tX6_loses)), (10, 2, 0, 0, (amRecv 6 tX6_acted))]
def eX6_lose (ret : Option Value → amH → Nat → Nat → Prop) (F : amX) : Nat → amX := amWp cX6_lose kX6_lose (amLk rX6_lose) (some .int) 0 0 ret F
def sX6_lose (ret : Option Value → amH → Nat → Nat → Prop) (F : amX) : Nat → amX := amWs cX6_lose kX6_lose (amLk rX6_lose) (some .int) 0 0 ret F
theorem wX6_lose_0 {ret F n h} {v0 v1 st} : eX6_lose ret F (n + 1) 0 [v0, v1] (st) h 0 0 = (amIsR v0 ∧ eX6_lose ret F n 1 [v0, v1] (v0 :: st) h 0 0) := (amWp_dec rfl dX6_lose_0 rfl).trans rfl
theorem uX6_lose_0 {ret F n h} {v0 v1 st} : sX6_lose ret F n 0 [v0, v1] (st) h 0 0 = (amIsR v0 ∧ eX6_lose ret F n 1 [v0, v1] (v0 :: st) h 0 0) := (amWs_dec dX6_lose_0 rfl).trans rfl
theorem wX6_lose_1 {ret F n h} {v0 v1 x0} : eX6_lose ret F (n + 1) 1 [v0, v1] (.ref x0 :: []) h 0 0 = (h.1 x0 = (0, 6) ∧ tX6_holds [.ref x0] h (fun v h => eX6_lose ret F n 4 [v0, v1] (v.toList ++ ([])) h 0 0)) := (amWp_dec rfl dX6_lose_1 rfl).trans (amS4 (Nat.le_of_ble_eq_true rfl) (Nat.le_of_ble_eq_true rfl) (Nat.le_of_ble_eq_true rfl) (Nat.le_of_ble_eq_true rfl))
theorem wX6_lose_4 {ret F n ls st h k z} : eX6_lose ret F (n + 1) 4 ls st h k z = F 4 ls st h k z := amWp_cut rfl
theorem uX6_lose_4 {ret F n h} {v0 v1 st} : sX6_lose ret F n 4 [v0, v1] (st) h 0 0 = (amIsR v0 ∧ eX6_lose ret F n 5 [v0, v1] (v0 :: st) h 0 0) := (amWs_dec dX6_lose_4 rfl).trans rfl
theorem wX6_lose_5 {ret F n h} {v0 v1 st} : eX6_lose ret F (n + 1) 5 [v0, v1] (st) h 0 0 = (amIsR v0 ∧ eX6_lose ret F n 6 [v0, v1] (v0 :: st) h 0 0) := (amWp_dec rfl dX6_lose_5 rfl).trans rfl
theorem wX6_lose_6 {ret F n h} {v0 st x} : eX6_lose ret F (n + 1) 6 [v0, .int x] (st) h 0 0 = (eX6_lose ret F n 7 [v0, .int x] (.int x :: st) h 0 0) := (amWp_dec rfl dX6_lose_6 rfl).trans rfl
theorem wX6_lose_7 {ret F n h} {v0 v1 x1 x0 r0} : eX6_lose ret F (n + 1) 7 [v0, v1] (.int x1 :: .ref x0 :: r0 :: []) h 0 0 = (h.1 x0 = (0, 6) ∧ tX6_loses [.ref x0, .int x1] h (fun v h => eX6_lose ret F n 10 [v0, v1] (v.toList ++ (r0 :: [])) h 0 0)) := (amWp_dec rfl dX6_lose_7 rfl).trans (amS4 (Nat.le_of_ble_eq_true rfl) (Nat.le_of_ble_eq_true rfl) (Nat.le_of_ble_eq_true rfl) (Nat.le_of_ble_eq_true rfl))
theorem wX6_lose_10 {ret F n ls st h k z} : eX6_lose ret F (n + 1) 10 ls st h k z = F 10 ls st h k z := amWp_cut rfl
theorem uX6_lose_10 {ret F n h} {v0 v1 x1 x0} : sX6_lose ret F n 10 [v0, v1] (.int x1 :: .ref x0 :: []) h 0 0 = (h.1 x0 = (0, 6) ∧ tX6_acted [.ref x0, .int x1] h (fun v h => eX6_lose ret F n 13 [v0, v1] (v.toList ++ ([])) h 0 0)) := (amWs_dec dX6_lose_10 rfl).trans (amS4 (Nat.le_of_ble_eq_true rfl) (Nat.le_of_ble_eq_true rfl) (Nat.le_of_ble_eq_true rfl) (Nat.le_of_ble_eq_true rfl))
theorem wX6_lose_13 {ret F n ls st h k z} : eX6_lose ret F (n + 1) 13 ls st h k z = F 13 ls st h k z := amWp_cut rfl
theorem uX6_lose_13 {ret F n h} {v0 v1 x} : sX6_lose ret F n 13 [v0, v1] ([.int x]) h 0 0 = (ret (some (.int x)) h 0 0) := (amWs_dec dX6_lose_13 rfl).trans (amTrue ⟨_, rfl, rfl⟩)
theorem evX6_lose (l : Launch) (G : amG) : ∀ pc S i sz, amLk rX6_lose pc = some S → decode cX6_lose pc = .ok (i, sz) → amSiteP pc G l yX6_lose.cls yX6_lose.name yX6_lose.desc (amRm 4 0 0) i sz S.1 S.2.1 S.2.2.1 S.2.2.2 := amLk_ok (by
  refine List.forall_mem_cons.mpr ⟨⟨_, _, dX6_lose_1, amSite.P (amSiteV (C := RX6) (metX6_holds l G) rfl (by decide) (by decide) (lw_V q1509 q1511 qs60 q94 q1512) ⟨_, rfl, rfl⟩ ⟨rfl, by decide +kernel, by decide +kernel, by decide +kernel⟩)⟩, ?_⟩
  refine List.forall_mem_cons.mpr ⟨⟨_, _, dX6_lose_7, amSite.P (amSiteV (C := RX6) (metX6_loses l G) rfl (by decide) (by decide) (lw_V q1541 q1543 qs65 q94 q1544) ⟨_, rfl, rfl⟩ ⟨rfl, by decide +kernel, by decide +kernel, by decide +kernel⟩)⟩, ?_⟩
  refine List.forall_mem_cons.mpr ⟨⟨_, _, dX6_lose_10, amSite.P (amSiteV (C := RX6) (metX6_acted l G) rfl (by decide) (by decide) (lw_V q1521 q1523 qs62 q94 q1524) ⟨_, rfl, rfl⟩ ⟨rfl, by decide +kernel, by decide +kernel, by decide +kernel⟩)⟩, ?_⟩
  exact fun _ h => absurd h List.not_mem_nil)
theorem goX6_lose {ret F} (hF : amCld cX6_lose kX6_lose (amLk rX6_lose) (some .int) 0 0 ret F) (n : Nat) {pc ls st h k z} (q : sX6_lose ret F n pc ls st h k z) : F pc ls st h k z := hF.1 n pc ls st h k z q
theorem metX6_lose (l : Launch) (G : amG) : amMet l G yX6_lose (ws_ yX6_lose cX6_lose 2 (some .int)) 4 0 0 tX6_lose := by
  refine amMet_of (cut := kX6_lose) (by decide +kernel) (evX6_lose l G) ?_
  intro as h K hT
  match as, hT with
  | [.ref t, .int k], ⟨X, e1, w, hO, hK⟩ =>
  refine ⟨Nat.le_of_ble_eq_true rfl, fun F hF => ?_⟩
  show F 0 [.ref t, .int k] [] h 0 0
  obtain ⟨t, rfl⟩ : ∃ i : Nat, i = t := ⟨_, rfl⟩
  subst e1
  have hR := w.1
  rw [loseR_eq hO] at hK
  refine goX6_lose hF 40 ?_
  simp (disch := omega) only [wX6_lose_0, uX6_lose_0, wX6_lose_1, wX6_lose_4, uX6_lose_4, wX6_lose_5, wX6_lose_6, wX6_lose_7, wX6_lose_10, uX6_lose_10, wX6_lose_13, uX6_lose_13, amSI_1, amSI_2, amSI_3, amSI_s, amU_at, amIsR_ref, amIsR_null, amIsR_rf, amRf_some, amRf_none, amClr_int, amClr_ref, amClr_null, amClr_long, amClr_ra, amClr_rf, amFit_int, amFit_oref, amFit_aref, amFit_onull, amFit_anull, amOptSome, amOptNone, List.cons_append, List.nil_append, true_and, and_true, true_implies, not_true_eq_false, not_false_eq_true, false_implies, and_self, Nat.add_zero, Nat.zero_add, ne_eq, Prod.mk.injEq, amC01_0, amC01_1, amC01_nb, amNb0, amNb1, amTcpI_d, Nat.reduceLeDiff, Nat.reduceAdd, Nat.reduceSub, Nat.reduceEqDiff, Nat.le_refl, amN0le, hR.s, hR.r]
  refine ⟨rfl, hR, fun m1 q1 q2 => ?_⟩
  refine goX6_lose hF 40 ?_
  simp (disch := omega) only [wX6_lose_0, uX6_lose_0, wX6_lose_1, wX6_lose_4, uX6_lose_4, wX6_lose_5, wX6_lose_6, wX6_lose_7, wX6_lose_10, uX6_lose_10, wX6_lose_13, uX6_lose_13, amSI_1, amSI_2, amSI_3, amSI_s, amU_at, amIsR_ref, amIsR_null, amIsR_rf, amRf_some, amRf_none, amClr_int, amClr_ref, amClr_null, amClr_long, amClr_ra, amClr_rf, amFit_int, amFit_oref, amFit_aref, amFit_onull, amFit_anull, amOptSome, amOptNone, List.cons_append, List.nil_append, true_and, and_true, true_implies, not_true_eq_false, not_false_eq_true, false_implies, and_self, Nat.add_zero, Nat.zero_add, ne_eq, Prod.mk.injEq, amC01_0, amC01_1, amC01_nb, amNb0, amNb1, amTcpI_d, Nat.reduceLeDiff, Nat.reduceAdd, Nat.reduceSub, Nat.reduceEqDiff, Nat.le_refl, amN0le, hR.s, hR.r]
  refine ⟨X.1, rfl, (w.sys hO).hold q2, fun m2 r1 r2 => ?_⟩
  refine goX6_lose hF 40 ?_
  simp (disch := omega) only [wX6_lose_0, uX6_lose_0, wX6_lose_1, wX6_lose_4, uX6_lose_4, wX6_lose_5, wX6_lose_6, wX6_lose_7, wX6_lose_10, uX6_lose_10, wX6_lose_13, uX6_lose_13, amSI_1, amSI_2, amSI_3, amSI_s, amU_at, amIsR_ref, amIsR_null, amIsR_rf, amRf_some, amRf_none, amClr_int, amClr_ref, amClr_null, amClr_long, amClr_ra, amClr_rf, amFit_int, amFit_oref, amFit_aref, amFit_onull, amFit_anull, amOptSome, amOptNone, List.cons_append, List.nil_append, true_and, and_true, true_implies, not_true_eq_false, not_false_eq_true, false_implies, and_self, Nat.add_zero, Nat.zero_add, ne_eq, Prod.mk.injEq, amC01_0, amC01_1, amC01_nb, amNb0, amNb1, amTcpI_d, Nat.reduceLeDiff, Nat.reduceAdd, Nat.reduceSub, Nat.reduceEqDiff, Nat.le_refl, amN0le, hR.s, hR.r]
  refine ⟨X.1, X.2.1, rfl, hR, w.first q1 r2, w.past q2 r2, fun m3 s1 s2 s3 => ?_⟩
  obtain ⟨g1, g2⟩ := w.act q2 r1 r2 s1 s2 s3
  have key := hK _ g1 g2
  refine goX6_lose hF 40 ?_
  simp (disch := omega) only [wX6_lose_0, uX6_lose_0, wX6_lose_1, wX6_lose_4, uX6_lose_4, wX6_lose_5, wX6_lose_6, wX6_lose_7, wX6_lose_10, uX6_lose_10, wX6_lose_13, uX6_lose_13, amSI_1, amSI_2, amSI_3, amSI_s, amU_at, amIsR_ref, amIsR_null, amIsR_rf, amRf_some, amRf_none, amClr_int, amClr_ref, amClr_null, amClr_long, amClr_ra, amClr_rf, amFit_int, amFit_oref, amFit_aref, amFit_onull, amFit_anull, amOptSome, amOptNone, List.cons_append, List.nil_append, true_and, and_true, true_implies, not_true_eq_false, not_false_eq_true, false_implies, and_self, Nat.add_zero, Nat.zero_add, ne_eq, Prod.mk.injEq, amC01_0, amC01_1, amC01_nb, amNb0, amNb1, amTcpI_d, Nat.reduceLeDiff, Nat.reduceAdd, Nat.reduceSub, Nat.reduceEqDiff, Nat.le_refl, amN0le, hR.s, hR.r]
  exact amRet.of (by decide) (by decide) key
theorem tX6_lose_d {t : Nat} {k : Int32} {h : amH} {K : Option Value → amH → Prop} : tX6_lose [.ref t, .int k] h K = ∃ X : XS, t = (124 : Nat) ∧ MdW h X ∧ hsOk X.1 ∧ ∀ h', msFr h h' → MdW h' (loseR X k).1 → K (some (.int (loseR X k).2)) h' := rfl
def tX6_ahead : amT := fun as h K => match as with
  | [.ref t, .int a, .int b] => ∃ X : XS, t = (124 : Nat) ∧ MdW h X ∧ hsOk X.1 ∧ ∀ h', msFr h h' → MdW h' (aheadR X a b).1 → K (some (.int (aheadR X a b).2)) h'
  | _ => False
/-! ReadingStagesModel.ahead(II)I -/
def kX6_ahead : Nat → Bool := fun pc => pc == 4 || pc == 11 || pc == 14
def rX6_ahead : List (Nat × amS) := [(1, 1, 0, 0, (amRecv 6 tX6_holds)), (8, 3, 0, 0, (amRecv 6 tX6_puts)), (11, 2, 0, 0, (amRecv 6 tX6_acted))]
def eX6_ahead (ret : Option Value → amH → Nat → Nat → Prop) (F : amX) : Nat → amX := amWp cX6_ahead kX6_ahead (amLk rX6_ahead) (some .int) 0 0 ret F
def sX6_ahead (ret : Option Value → amH → Nat → Nat → Prop) (F : amX) : Nat → amX := amWs cX6_ahead kX6_ahead (amLk rX6_ahead) (some .int) 0 0 ret F
theorem wX6_ahead_0 {ret F n h} {v0 v1 v2 st} : eX6_ahead ret F (n + 1) 0 [v0, v1, v2] (st) h 0 0 = (amIsR v0 ∧ eX6_ahead ret F n 1 [v0, v1, v2] (v0 :: st) h 0 0) := (amWp_dec rfl dX6_ahead_0 rfl).trans rfl
theorem uX6_ahead_0 {ret F n h} {v0 v1 v2 st} : sX6_ahead ret F n 0 [v0, v1, v2] (st) h 0 0 = (amIsR v0 ∧ eX6_ahead ret F n 1 [v0, v1, v2] (v0 :: st) h 0 0) := (amWs_dec dX6_ahead_0 rfl).trans rfl
theorem wX6_ahead_1 {ret F n h} {v0 v1 v2 x0} : eX6_ahead ret F (n + 1) 1 [v0, v1, v2] (.ref x0 :: []) h 0 0 = (h.1 x0 = (0, 6) ∧ tX6_holds [.ref x0] h (fun v h => eX6_ahead ret F n 4 [v0, v1, v2] (v.toList ++ ([])) h 0 0)) := (amWp_dec rfl dX6_ahead_1 rfl).trans (amS4 (Nat.le_of_ble_eq_true rfl) (Nat.le_of_ble_eq_true rfl) (Nat.le_of_ble_eq_true rfl) (Nat.le_of_ble_eq_true rfl))
theorem wX6_ahead_4 {ret F n ls st h k z} : eX6_ahead ret F (n + 1) 4 ls st h k z = F 4 ls st h k z := amWp_cut rfl
theorem uX6_ahead_4 {ret F n h} {v0 v1 v2 st} : sX6_ahead ret F n 4 [v0, v1, v2] (st) h 0 0 = (amIsR v0 ∧ eX6_ahead ret F n 5 [v0, v1, v2] (v0 :: st) h 0 0) := (amWs_dec dX6_ahead_4 rfl).trans rfl
theorem wX6_ahead_5 {ret F n h} {v0 v1 v2 st} : eX6_ahead ret F (n + 1) 5 [v0, v1, v2] (st) h 0 0 = (amIsR v0 ∧ eX6_ahead ret F n 6 [v0, v1, v2] (v0 :: st) h 0 0) := (amWp_dec rfl dX6_ahead_5 rfl).trans rfl
theorem wX6_ahead_6 {ret F n h} {v0 v2 st x} : eX6_ahead ret F (n + 1) 6 [v0, .int x, v2] (st) h 0 0 = (eX6_ahead ret F n 7 [v0, .int x, v2] (.int x :: st) h 0 0) := (amWp_dec rfl dX6_ahead_6 rfl).trans rfl
theorem wX6_ahead_7 {ret F n h} {v0 v1 st x} : eX6_ahead ret F (n + 1) 7 [v0, v1, .int x] (st) h 0 0 = (eX6_ahead ret F n 8 [v0, v1, .int x] (.int x :: st) h 0 0) := (amWp_dec rfl dX6_ahead_7 rfl).trans rfl
theorem wX6_ahead_8 {ret F n h} {v0 v1 v2 x2 x1 x0 r0} : eX6_ahead ret F (n + 1) 8 [v0, v1, v2] (.int x2 :: .int x1 :: .ref x0 :: r0 :: []) h 0 0 = (h.1 x0 = (0, 6) ∧ tX6_puts [.ref x0, .int x1, .int x2] h (fun v h => eX6_ahead ret F n 11 [v0, v1, v2] (v.toList ++ (r0 :: [])) h 0 0)) := (amWp_dec rfl dX6_ahead_8 rfl).trans (amS4 (Nat.le_of_ble_eq_true rfl) (Nat.le_of_ble_eq_true rfl) (Nat.le_of_ble_eq_true rfl) (Nat.le_of_ble_eq_true rfl))
theorem wX6_ahead_11 {ret F n ls st h k z} : eX6_ahead ret F (n + 1) 11 ls st h k z = F 11 ls st h k z := amWp_cut rfl
theorem uX6_ahead_11 {ret F n h} {v0 v1 v2 x1 x0} : sX6_ahead ret F n 11 [v0, v1, v2] (.int x1 :: .ref x0 :: []) h 0 0 = (h.1 x0 = (0, 6) ∧ tX6_acted [.ref x0, .int x1] h (fun v h => eX6_ahead ret F n 14 [v0, v1, v2] (v.toList ++ ([])) h 0 0)) := (amWs_dec dX6_ahead_11 rfl).trans (amS4 (Nat.le_of_ble_eq_true rfl) (Nat.le_of_ble_eq_true rfl) (Nat.le_of_ble_eq_true rfl) (Nat.le_of_ble_eq_true rfl))
theorem wX6_ahead_14 {ret F n ls st h k z} : eX6_ahead ret F (n + 1) 14 ls st h k z = F 14 ls st h k z := amWp_cut rfl
theorem uX6_ahead_14 {ret F n h} {v0 v1 v2 x} : sX6_ahead ret F n 14 [v0, v1, v2] ([.int x]) h 0 0 = (ret (some (.int x)) h 0 0) := (amWs_dec dX6_ahead_14 rfl).trans (amTrue ⟨_, rfl, rfl⟩)
theorem evX6_ahead (l : Launch) (G : amG) : ∀ pc S i sz, amLk rX6_ahead pc = some S → decode cX6_ahead pc = .ok (i, sz) → amSiteP pc G l yX6_ahead.cls yX6_ahead.name yX6_ahead.desc (amRm 4 0 0) i sz S.1 S.2.1 S.2.2.1 S.2.2.2 := amLk_ok (by
  refine List.forall_mem_cons.mpr ⟨⟨_, _, dX6_ahead_1, amSite.P (amSiteV (C := RX6) (metX6_holds l G) rfl (by decide) (by decide) (lw_V q1509 q1511 qs60 q94 q1512) ⟨_, rfl, rfl⟩ ⟨rfl, by decide +kernel, by decide +kernel, by decide +kernel⟩)⟩, ?_⟩
  refine List.forall_mem_cons.mpr ⟨⟨_, _, dX6_ahead_8, amSite.P (amSiteV (C := RX6) (metX6_puts l G) rfl (by decide) (by decide) (lw_V q1552 q1554 qs66 q94 q1555) ⟨_, rfl, rfl⟩ ⟨rfl, by decide +kernel, by decide +kernel, by decide +kernel⟩)⟩, ?_⟩
  refine List.forall_mem_cons.mpr ⟨⟨_, _, dX6_ahead_11, amSite.P (amSiteV (C := RX6) (metX6_acted l G) rfl (by decide) (by decide) (lw_V q1521 q1523 qs62 q94 q1524) ⟨_, rfl, rfl⟩ ⟨rfl, by decide +kernel, by decide +kernel, by decide +kernel⟩)⟩, ?_⟩
  exact fun _ h => absurd h List.not_mem_nil)
theorem goX6_ahead {ret F} (hF : amCld cX6_ahead kX6_ahead (amLk rX6_ahead) (some .int) 0 0 ret F) (n : Nat) {pc ls st h k z} (q : sX6_ahead ret F n pc ls st h k z) : F pc ls st h k z := hF.1 n pc ls st h k z q
theorem metX6_ahead (l : Launch) (G : amG) : amMet l G yX6_ahead (ws_ yX6_ahead cX6_ahead 3 (some .int)) 4 0 0 tX6_ahead := by
  refine amMet_of (cut := kX6_ahead) (by decide +kernel) (evX6_ahead l G) ?_
  intro as h K hT
  match as, hT with
  | [.ref t, .int a, .int b], ⟨X, e1, w, hO, hK⟩ =>
  refine ⟨Nat.le_of_ble_eq_true rfl, fun F hF => ?_⟩
  show F 0 [.ref t, .int a, .int b] [] h 0 0
  obtain ⟨t, rfl⟩ : ∃ i : Nat, i = t := ⟨_, rfl⟩
  subst e1
  have hR := w.1
  rw [aheadR_eq hO] at hK
  refine goX6_ahead hF 40 ?_
  simp (disch := omega) only [wX6_ahead_0, uX6_ahead_0, wX6_ahead_1, wX6_ahead_4, uX6_ahead_4, wX6_ahead_5, wX6_ahead_6, wX6_ahead_7, wX6_ahead_8, wX6_ahead_11, uX6_ahead_11, wX6_ahead_14, uX6_ahead_14, amSI_1, amSI_2, amSI_3, amSI_s, amU_at, amIsR_ref, amIsR_null, amIsR_rf, amRf_some, amRf_none, amClr_int, amClr_ref, amClr_null, amClr_long, amClr_ra, amClr_rf, amFit_int, amFit_oref, amFit_aref, amFit_onull, amFit_anull, amOptSome, amOptNone, List.cons_append, List.nil_append, true_and, and_true, true_implies, not_true_eq_false, not_false_eq_true, false_implies, and_self, Nat.add_zero, Nat.zero_add, ne_eq, Prod.mk.injEq, amC01_0, amC01_1, amC01_nb, amNb0, amNb1, amTcpI_d, Nat.reduceLeDiff, Nat.reduceAdd, Nat.reduceSub, Nat.reduceEqDiff, Nat.le_refl, amN0le, hR.s, hR.r]
  refine ⟨rfl, hR, fun m1 q1 q2 => ?_⟩
  refine goX6_ahead hF 40 ?_
  simp (disch := omega) only [wX6_ahead_0, uX6_ahead_0, wX6_ahead_1, wX6_ahead_4, uX6_ahead_4, wX6_ahead_5, wX6_ahead_6, wX6_ahead_7, wX6_ahead_8, wX6_ahead_11, uX6_ahead_11, wX6_ahead_14, uX6_ahead_14, amSI_1, amSI_2, amSI_3, amSI_s, amU_at, amIsR_ref, amIsR_null, amIsR_rf, amRf_some, amRf_none, amClr_int, amClr_ref, amClr_null, amClr_long, amClr_ra, amClr_rf, amFit_int, amFit_oref, amFit_aref, amFit_onull, amFit_anull, amOptSome, amOptNone, List.cons_append, List.nil_append, true_and, and_true, true_implies, not_true_eq_false, not_false_eq_true, false_implies, and_self, Nat.add_zero, Nat.zero_add, ne_eq, Prod.mk.injEq, amC01_0, amC01_1, amC01_nb, amNb0, amNb1, amTcpI_d, Nat.reduceLeDiff, Nat.reduceAdd, Nat.reduceSub, Nat.reduceEqDiff, Nat.le_refl, amN0le, hR.s, hR.r]
  refine ⟨X.1, rfl, (w.sys hO).hold q2, fun m2 r1 r2 => ?_⟩
  refine goX6_ahead hF 40 ?_
  simp (disch := omega) only [wX6_ahead_0, uX6_ahead_0, wX6_ahead_1, wX6_ahead_4, uX6_ahead_4, wX6_ahead_5, wX6_ahead_6, wX6_ahead_7, wX6_ahead_8, wX6_ahead_11, uX6_ahead_11, wX6_ahead_14, uX6_ahead_14, amSI_1, amSI_2, amSI_3, amSI_s, amU_at, amIsR_ref, amIsR_null, amIsR_rf, amRf_some, amRf_none, amClr_int, amClr_ref, amClr_null, amClr_long, amClr_ra, amClr_rf, amFit_int, amFit_oref, amFit_aref, amFit_onull, amFit_anull, amOptSome, amOptNone, List.cons_append, List.nil_append, true_and, and_true, true_implies, not_true_eq_false, not_false_eq_true, false_implies, and_self, Nat.add_zero, Nat.zero_add, ne_eq, Prod.mk.injEq, amC01_0, amC01_1, amC01_nb, amNb0, amNb1, amTcpI_d, Nat.reduceLeDiff, Nat.reduceAdd, Nat.reduceSub, Nat.reduceEqDiff, Nat.le_refl, amN0le, hR.s, hR.r]
  refine ⟨X.1, X.2.1, rfl, hR, w.first q1 r2, w.past q2 r2, fun m3 s1 s2 s3 => ?_⟩
  obtain ⟨g1, g2⟩ := w.act q2 r1 r2 s1 s2 s3
  have key := hK _ g1 g2
  refine goX6_ahead hF 40 ?_
  simp (disch := omega) only [wX6_ahead_0, uX6_ahead_0, wX6_ahead_1, wX6_ahead_4, uX6_ahead_4, wX6_ahead_5, wX6_ahead_6, wX6_ahead_7, wX6_ahead_8, wX6_ahead_11, uX6_ahead_11, wX6_ahead_14, uX6_ahead_14, amSI_1, amSI_2, amSI_3, amSI_s, amU_at, amIsR_ref, amIsR_null, amIsR_rf, amRf_some, amRf_none, amClr_int, amClr_ref, amClr_null, amClr_long, amClr_ra, amClr_rf, amFit_int, amFit_oref, amFit_aref, amFit_onull, amFit_anull, amOptSome, amOptNone, List.cons_append, List.nil_append, true_and, and_true, true_implies, not_true_eq_false, not_false_eq_true, false_implies, and_self, Nat.add_zero, Nat.zero_add, ne_eq, Prod.mk.injEq, amC01_0, amC01_1, amC01_nb, amNb0, amNb1, amTcpI_d, Nat.reduceLeDiff, Nat.reduceAdd, Nat.reduceSub, Nat.reduceEqDiff, Nat.le_refl, amN0le, hR.s, hR.r]
  exact amRet.of (by decide) (by decide) key
theorem tX6_ahead_d {t : Nat} {a b : Int32} {h : amH} {K : Option Value → amH → Prop} : tX6_ahead [.ref t, .int a, .int b] h K = ∃ X : XS, t = (124 : Nat) ∧ MdW h X ∧ hsOk X.1 ∧ ∀ h', msFr h h' → MdW h' (aheadR X a b).1 → K (some (.int (aheadR X a b).2)) h' := rfl
def tX6_prior : amT := fun as h K => match as with
  | [.ref t, .int x] => ∃ X : XS, t = (124 : Nat) ∧ MdW h X ∧ hsOk X.1 ∧ ∀ h', msFr h h' → MdW h' (priorR X x).1 → K (some (.int (priorR X x).2)) h'
  | _ => False
/-! ReadingStagesModel.prior(I)I -/
def kX6_prior : Nat → Bool := fun pc => pc == 4 || pc == 10 || pc == 13
def rX6_prior : List (Nat × amS) := [(1, 1, 0, 0, (amRecv 6 tX6_holds)), (7, 2, 0, 0, (amRecv 6 tX6_sets)), (10, 2, 0, 0, (amRecv 6 tX6_acted))]
def eX6_prior (ret : Option Value → amH → Nat → Nat → Prop) (F : amX) : Nat → amX := amWp cX6_prior kX6_prior (amLk rX6_prior) (some .int) 0 0 ret F
def sX6_prior (ret : Option Value → amH → Nat → Nat → Prop) (F : amX) : Nat → amX := amWs cX6_prior kX6_prior (amLk rX6_prior) (some .int) 0 0 ret F
theorem wX6_prior_0 {ret F n h} {v0 v1 st} : eX6_prior ret F (n + 1) 0 [v0, v1] (st) h 0 0 = (amIsR v0 ∧ eX6_prior ret F n 1 [v0, v1] (v0 :: st) h 0 0) := (amWp_dec rfl dX6_prior_0 rfl).trans rfl
theorem uX6_prior_0 {ret F n h} {v0 v1 st} : sX6_prior ret F n 0 [v0, v1] (st) h 0 0 = (amIsR v0 ∧ eX6_prior ret F n 1 [v0, v1] (v0 :: st) h 0 0) := (amWs_dec dX6_prior_0 rfl).trans rfl
theorem wX6_prior_1 {ret F n h} {v0 v1 x0} : eX6_prior ret F (n + 1) 1 [v0, v1] (.ref x0 :: []) h 0 0 = (h.1 x0 = (0, 6) ∧ tX6_holds [.ref x0] h (fun v h => eX6_prior ret F n 4 [v0, v1] (v.toList ++ ([])) h 0 0)) := (amWp_dec rfl dX6_prior_1 rfl).trans (amS4 (Nat.le_of_ble_eq_true rfl) (Nat.le_of_ble_eq_true rfl) (Nat.le_of_ble_eq_true rfl) (Nat.le_of_ble_eq_true rfl))
theorem wX6_prior_4 {ret F n ls st h k z} : eX6_prior ret F (n + 1) 4 ls st h k z = F 4 ls st h k z := amWp_cut rfl
theorem uX6_prior_4 {ret F n h} {v0 v1 st} : sX6_prior ret F n 4 [v0, v1] (st) h 0 0 = (amIsR v0 ∧ eX6_prior ret F n 5 [v0, v1] (v0 :: st) h 0 0) := (amWs_dec dX6_prior_4 rfl).trans rfl
theorem wX6_prior_5 {ret F n h} {v0 v1 st} : eX6_prior ret F (n + 1) 5 [v0, v1] (st) h 0 0 = (amIsR v0 ∧ eX6_prior ret F n 6 [v0, v1] (v0 :: st) h 0 0) := (amWp_dec rfl dX6_prior_5 rfl).trans rfl
theorem wX6_prior_6 {ret F n h} {v0 st x} : eX6_prior ret F (n + 1) 6 [v0, .int x] (st) h 0 0 = (eX6_prior ret F n 7 [v0, .int x] (.int x :: st) h 0 0) := (amWp_dec rfl dX6_prior_6 rfl).trans rfl
theorem wX6_prior_7 {ret F n h} {v0 v1 x1 x0 r0} : eX6_prior ret F (n + 1) 7 [v0, v1] (.int x1 :: .ref x0 :: r0 :: []) h 0 0 = (h.1 x0 = (0, 6) ∧ tX6_sets [.ref x0, .int x1] h (fun v h => eX6_prior ret F n 10 [v0, v1] (v.toList ++ (r0 :: [])) h 0 0)) := (amWp_dec rfl dX6_prior_7 rfl).trans (amS4 (Nat.le_of_ble_eq_true rfl) (Nat.le_of_ble_eq_true rfl) (Nat.le_of_ble_eq_true rfl) (Nat.le_of_ble_eq_true rfl))
theorem wX6_prior_10 {ret F n ls st h k z} : eX6_prior ret F (n + 1) 10 ls st h k z = F 10 ls st h k z := amWp_cut rfl
theorem uX6_prior_10 {ret F n h} {v0 v1 x1 x0} : sX6_prior ret F n 10 [v0, v1] (.int x1 :: .ref x0 :: []) h 0 0 = (h.1 x0 = (0, 6) ∧ tX6_acted [.ref x0, .int x1] h (fun v h => eX6_prior ret F n 13 [v0, v1] (v.toList ++ ([])) h 0 0)) := (amWs_dec dX6_prior_10 rfl).trans (amS4 (Nat.le_of_ble_eq_true rfl) (Nat.le_of_ble_eq_true rfl) (Nat.le_of_ble_eq_true rfl) (Nat.le_of_ble_eq_true rfl))
theorem wX6_prior_13 {ret F n ls st h k z} : eX6_prior ret F (n + 1) 13 ls st h k z = F 13 ls st h k z := amWp_cut rfl
theorem uX6_prior_13 {ret F n h} {v0 v1 x} : sX6_prior ret F n 13 [v0, v1] ([.int x]) h 0 0 = (ret (some (.int x)) h 0 0) := (amWs_dec dX6_prior_13 rfl).trans (amTrue ⟨_, rfl, rfl⟩)
theorem evX6_prior (l : Launch) (G : amG) : ∀ pc S i sz, amLk rX6_prior pc = some S → decode cX6_prior pc = .ok (i, sz) → amSiteP pc G l yX6_prior.cls yX6_prior.name yX6_prior.desc (amRm 4 0 0) i sz S.1 S.2.1 S.2.2.1 S.2.2.2 := amLk_ok (by
  refine List.forall_mem_cons.mpr ⟨⟨_, _, dX6_prior_1, amSite.P (amSiteV (C := RX6) (metX6_holds l G) rfl (by decide) (by decide) (lw_V q1509 q1511 qs60 q94 q1512) ⟨_, rfl, rfl⟩ ⟨rfl, by decide +kernel, by decide +kernel, by decide +kernel⟩)⟩, ?_⟩
  refine List.forall_mem_cons.mpr ⟨⟨_, _, dX6_prior_7, amSite.P (amSiteV (C := RX6) (metX6_sets l G) rfl (by decide) (by decide) (lw_V q1564 q1566 qs68 q94 q1567) ⟨_, rfl, rfl⟩ ⟨rfl, by decide +kernel, by decide +kernel, by decide +kernel⟩)⟩, ?_⟩
  refine List.forall_mem_cons.mpr ⟨⟨_, _, dX6_prior_10, amSite.P (amSiteV (C := RX6) (metX6_acted l G) rfl (by decide) (by decide) (lw_V q1521 q1523 qs62 q94 q1524) ⟨_, rfl, rfl⟩ ⟨rfl, by decide +kernel, by decide +kernel, by decide +kernel⟩)⟩, ?_⟩
  exact fun _ h => absurd h List.not_mem_nil)
theorem goX6_prior {ret F} (hF : amCld cX6_prior kX6_prior (amLk rX6_prior) (some .int) 0 0 ret F) (n : Nat) {pc ls st h k z} (q : sX6_prior ret F n pc ls st h k z) : F pc ls st h k z := hF.1 n pc ls st h k z q
theorem metX6_prior (l : Launch) (G : amG) : amMet l G yX6_prior (ws_ yX6_prior cX6_prior 2 (some .int)) 4 0 0 tX6_prior := by
  refine amMet_of (cut := kX6_prior) (by decide +kernel) (evX6_prior l G) ?_
  intro as h K hT
  match as, hT with
  | [.ref t, .int x], ⟨X, e1, w, hO, hK⟩ =>
  refine ⟨Nat.le_of_ble_eq_true rfl, fun F hF => ?_⟩
  show F 0 [.ref t, .int x] [] h 0 0
  obtain ⟨t, rfl⟩ : ∃ i : Nat, i = t := ⟨_, rfl⟩
  subst e1
  have hR := w.1
  rw [priorR_eq hO] at hK
  refine goX6_prior hF 40 ?_
  simp (disch := omega) only [wX6_prior_0, uX6_prior_0, wX6_prior_1, wX6_prior_4, uX6_prior_4, wX6_prior_5, wX6_prior_6, wX6_prior_7, wX6_prior_10, uX6_prior_10, wX6_prior_13, uX6_prior_13, amSI_1, amSI_2, amSI_3, amSI_s, amU_at, amIsR_ref, amIsR_null, amIsR_rf, amRf_some, amRf_none, amClr_int, amClr_ref, amClr_null, amClr_long, amClr_ra, amClr_rf, amFit_int, amFit_oref, amFit_aref, amFit_onull, amFit_anull, amOptSome, amOptNone, List.cons_append, List.nil_append, true_and, and_true, true_implies, not_true_eq_false, not_false_eq_true, false_implies, and_self, Nat.add_zero, Nat.zero_add, ne_eq, Prod.mk.injEq, amC01_0, amC01_1, amC01_nb, amNb0, amNb1, amTcpI_d, Nat.reduceLeDiff, Nat.reduceAdd, Nat.reduceSub, Nat.reduceEqDiff, Nat.le_refl, amN0le, hR.s, hR.r]
  refine ⟨rfl, hR, fun m1 q1 q2 => ?_⟩
  refine goX6_prior hF 40 ?_
  simp (disch := omega) only [wX6_prior_0, uX6_prior_0, wX6_prior_1, wX6_prior_4, uX6_prior_4, wX6_prior_5, wX6_prior_6, wX6_prior_7, wX6_prior_10, uX6_prior_10, wX6_prior_13, uX6_prior_13, amSI_1, amSI_2, amSI_3, amSI_s, amU_at, amIsR_ref, amIsR_null, amIsR_rf, amRf_some, amRf_none, amClr_int, amClr_ref, amClr_null, amClr_long, amClr_ra, amClr_rf, amFit_int, amFit_oref, amFit_aref, amFit_onull, amFit_anull, amOptSome, amOptNone, List.cons_append, List.nil_append, true_and, and_true, true_implies, not_true_eq_false, not_false_eq_true, false_implies, and_self, Nat.add_zero, Nat.zero_add, ne_eq, Prod.mk.injEq, amC01_0, amC01_1, amC01_nb, amNb0, amNb1, amTcpI_d, Nat.reduceLeDiff, Nat.reduceAdd, Nat.reduceSub, Nat.reduceEqDiff, Nat.le_refl, amN0le, hR.s, hR.r]
  refine ⟨X.1, rfl, (w.sys hO).hold q2, fun m2 r1 r2 => ?_⟩
  refine goX6_prior hF 40 ?_
  simp (disch := omega) only [wX6_prior_0, uX6_prior_0, wX6_prior_1, wX6_prior_4, uX6_prior_4, wX6_prior_5, wX6_prior_6, wX6_prior_7, wX6_prior_10, uX6_prior_10, wX6_prior_13, uX6_prior_13, amSI_1, amSI_2, amSI_3, amSI_s, amU_at, amIsR_ref, amIsR_null, amIsR_rf, amRf_some, amRf_none, amClr_int, amClr_ref, amClr_null, amClr_long, amClr_ra, amClr_rf, amFit_int, amFit_oref, amFit_aref, amFit_onull, amFit_anull, amOptSome, amOptNone, List.cons_append, List.nil_append, true_and, and_true, true_implies, not_true_eq_false, not_false_eq_true, false_implies, and_self, Nat.add_zero, Nat.zero_add, ne_eq, Prod.mk.injEq, amC01_0, amC01_1, amC01_nb, amNb0, amNb1, amTcpI_d, Nat.reduceLeDiff, Nat.reduceAdd, Nat.reduceSub, Nat.reduceEqDiff, Nat.le_refl, amN0le, hR.s, hR.r]
  refine ⟨X.1, X.2.1, rfl, hR, w.first q1 r2, w.past q2 r2, fun m3 s1 s2 s3 => ?_⟩
  obtain ⟨g1, g2⟩ := w.act q2 r1 r2 s1 s2 s3
  have key := hK _ g1 g2
  refine goX6_prior hF 40 ?_
  simp (disch := omega) only [wX6_prior_0, uX6_prior_0, wX6_prior_1, wX6_prior_4, uX6_prior_4, wX6_prior_5, wX6_prior_6, wX6_prior_7, wX6_prior_10, uX6_prior_10, wX6_prior_13, uX6_prior_13, amSI_1, amSI_2, amSI_3, amSI_s, amU_at, amIsR_ref, amIsR_null, amIsR_rf, amRf_some, amRf_none, amClr_int, amClr_ref, amClr_null, amClr_long, amClr_ra, amClr_rf, amFit_int, amFit_oref, amFit_aref, amFit_onull, amFit_anull, amOptSome, amOptNone, List.cons_append, List.nil_append, true_and, and_true, true_implies, not_true_eq_false, not_false_eq_true, false_implies, and_self, Nat.add_zero, Nat.zero_add, ne_eq, Prod.mk.injEq, amC01_0, amC01_1, amC01_nb, amNb0, amNb1, amTcpI_d, Nat.reduceLeDiff, Nat.reduceAdd, Nat.reduceSub, Nat.reduceEqDiff, Nat.le_refl, amN0le, hR.s, hR.r]
  exact amRet.of (by decide) (by decide) key
theorem tX6_prior_d {t : Nat} {x : Int32} {h : amH} {K : Option Value → amH → Prop} : tX6_prior [.ref t, .int x] h K = ∃ X : XS, t = (124 : Nat) ∧ MdW h X ∧ hsOk X.1 ∧ ∀ h', msFr h h' → MdW h' (priorR X x).1 → K (some (.int (priorR X x).2)) h' := rfl
def tX6_tell : amT := fun as h K => match as with
  | [.ref t, .int o, .int v] => ∃ X : XS, t = (124 : Nat) ∧ MdW h X ∧ hsOk X.1 ∧ ∀ h', msFr h h' → MdW h' (tellR X o v).1 → K (some (.int (tellR X o v).2)) h'
  | _ => False
/-! ReadingStagesModel.tell(II)I -/
def kX6_tell : Nat → Bool := fun pc => pc == 4 || pc == 11 || pc == 14
def rX6_tell : List (Nat × amS) := [(1, 1, 0, 0, (amRecv 6 tX6_holds)), (8, 3, 0, 0, (amRecv 6 tX6_tells)), (11, 2, 0, 0, (amRecv 6 tX6_acted))]
def eX6_tell (ret : Option Value → amH → Nat → Nat → Prop) (F : amX) : Nat → amX := amWp cX6_tell kX6_tell (amLk rX6_tell) (some .int) 0 0 ret F
def sX6_tell (ret : Option Value → amH → Nat → Nat → Prop) (F : amX) : Nat → amX := amWs cX6_tell kX6_tell (amLk rX6_tell) (some .int) 0 0 ret F
theorem wX6_tell_0 {ret F n h} {v0 v1 v2 st} : eX6_tell ret F (n + 1) 0 [v0, v1, v2] (st) h 0 0 = (amIsR v0 ∧ eX6_tell ret F n 1 [v0, v1, v2] (v0 :: st) h 0 0) := (amWp_dec rfl dX6_tell_0 rfl).trans rfl
theorem uX6_tell_0 {ret F n h} {v0 v1 v2 st} : sX6_tell ret F n 0 [v0, v1, v2] (st) h 0 0 = (amIsR v0 ∧ eX6_tell ret F n 1 [v0, v1, v2] (v0 :: st) h 0 0) := (amWs_dec dX6_tell_0 rfl).trans rfl
theorem wX6_tell_1 {ret F n h} {v0 v1 v2 x0} : eX6_tell ret F (n + 1) 1 [v0, v1, v2] (.ref x0 :: []) h 0 0 = (h.1 x0 = (0, 6) ∧ tX6_holds [.ref x0] h (fun v h => eX6_tell ret F n 4 [v0, v1, v2] (v.toList ++ ([])) h 0 0)) := (amWp_dec rfl dX6_tell_1 rfl).trans (amS4 (Nat.le_of_ble_eq_true rfl) (Nat.le_of_ble_eq_true rfl) (Nat.le_of_ble_eq_true rfl) (Nat.le_of_ble_eq_true rfl))
theorem wX6_tell_4 {ret F n ls st h k z} : eX6_tell ret F (n + 1) 4 ls st h k z = F 4 ls st h k z := amWp_cut rfl
theorem uX6_tell_4 {ret F n h} {v0 v1 v2 st} : sX6_tell ret F n 4 [v0, v1, v2] (st) h 0 0 = (amIsR v0 ∧ eX6_tell ret F n 5 [v0, v1, v2] (v0 :: st) h 0 0) := (amWs_dec dX6_tell_4 rfl).trans rfl
theorem wX6_tell_5 {ret F n h} {v0 v1 v2 st} : eX6_tell ret F (n + 1) 5 [v0, v1, v2] (st) h 0 0 = (amIsR v0 ∧ eX6_tell ret F n 6 [v0, v1, v2] (v0 :: st) h 0 0) := (amWp_dec rfl dX6_tell_5 rfl).trans rfl
theorem wX6_tell_6 {ret F n h} {v0 v2 st x} : eX6_tell ret F (n + 1) 6 [v0, .int x, v2] (st) h 0 0 = (eX6_tell ret F n 7 [v0, .int x, v2] (.int x :: st) h 0 0) := (amWp_dec rfl dX6_tell_6 rfl).trans rfl
theorem wX6_tell_7 {ret F n h} {v0 v1 st x} : eX6_tell ret F (n + 1) 7 [v0, v1, .int x] (st) h 0 0 = (eX6_tell ret F n 8 [v0, v1, .int x] (.int x :: st) h 0 0) := (amWp_dec rfl dX6_tell_7 rfl).trans rfl
theorem wX6_tell_8 {ret F n h} {v0 v1 v2 x2 x1 x0 r0} : eX6_tell ret F (n + 1) 8 [v0, v1, v2] (.int x2 :: .int x1 :: .ref x0 :: r0 :: []) h 0 0 = (h.1 x0 = (0, 6) ∧ tX6_tells [.ref x0, .int x1, .int x2] h (fun v h => eX6_tell ret F n 11 [v0, v1, v2] (v.toList ++ (r0 :: [])) h 0 0)) := (amWp_dec rfl dX6_tell_8 rfl).trans (amS4 (Nat.le_of_ble_eq_true rfl) (Nat.le_of_ble_eq_true rfl) (Nat.le_of_ble_eq_true rfl) (Nat.le_of_ble_eq_true rfl))
theorem wX6_tell_11 {ret F n ls st h k z} : eX6_tell ret F (n + 1) 11 ls st h k z = F 11 ls st h k z := amWp_cut rfl
theorem uX6_tell_11 {ret F n h} {v0 v1 v2 x1 x0} : sX6_tell ret F n 11 [v0, v1, v2] (.int x1 :: .ref x0 :: []) h 0 0 = (h.1 x0 = (0, 6) ∧ tX6_acted [.ref x0, .int x1] h (fun v h => eX6_tell ret F n 14 [v0, v1, v2] (v.toList ++ ([])) h 0 0)) := (amWs_dec dX6_tell_11 rfl).trans (amS4 (Nat.le_of_ble_eq_true rfl) (Nat.le_of_ble_eq_true rfl) (Nat.le_of_ble_eq_true rfl) (Nat.le_of_ble_eq_true rfl))
theorem wX6_tell_14 {ret F n ls st h k z} : eX6_tell ret F (n + 1) 14 ls st h k z = F 14 ls st h k z := amWp_cut rfl
theorem uX6_tell_14 {ret F n h} {v0 v1 v2 x} : sX6_tell ret F n 14 [v0, v1, v2] ([.int x]) h 0 0 = (ret (some (.int x)) h 0 0) := (amWs_dec dX6_tell_14 rfl).trans (amTrue ⟨_, rfl, rfl⟩)
theorem evX6_tell (l : Launch) (G : amG) : ∀ pc S i sz, amLk rX6_tell pc = some S → decode cX6_tell pc = .ok (i, sz) → amSiteP pc G l yX6_tell.cls yX6_tell.name yX6_tell.desc (amRm 3 0 0) i sz S.1 S.2.1 S.2.2.1 S.2.2.2 := amLk_ok (by
  refine List.forall_mem_cons.mpr ⟨⟨_, _, dX6_tell_1, amSite.P (amSiteV (C := RX6) (metX6_holds l G) rfl (by decide) (by decide) (lw_V q1509 q1511 qs60 q94 q1512) ⟨_, rfl, rfl⟩ ⟨rfl, by decide +kernel, by decide +kernel, by decide +kernel⟩)⟩, ?_⟩
  refine List.forall_mem_cons.mpr ⟨⟨_, _, dX6_tell_8, amSite.P (amSiteV (C := RX6) (metX6_tells l G) rfl (by decide) (by decide) (lw_V q1572 q1574 qs69 q94 q1575) ⟨_, rfl, rfl⟩ ⟨rfl, by decide +kernel, by decide +kernel, by decide +kernel⟩)⟩, ?_⟩
  refine List.forall_mem_cons.mpr ⟨⟨_, _, dX6_tell_11, amSite.P (amSiteV (C := RX6) (metX6_acted l G) rfl (by decide) (by decide) (lw_V q1521 q1523 qs62 q94 q1524) ⟨_, rfl, rfl⟩ ⟨rfl, by decide +kernel, by decide +kernel, by decide +kernel⟩)⟩, ?_⟩
  exact fun _ h => absurd h List.not_mem_nil)
theorem goX6_tell {ret F} (hF : amCld cX6_tell kX6_tell (amLk rX6_tell) (some .int) 0 0 ret F) (n : Nat) {pc ls st h k z} (q : sX6_tell ret F n pc ls st h k z) : F pc ls st h k z := hF.1 n pc ls st h k z q
theorem metX6_tell (l : Launch) (G : amG) : amMet l G yX6_tell (ws_ yX6_tell cX6_tell 3 (some .int)) 3 0 0 tX6_tell := by
  refine amMet_of (cut := kX6_tell) (by decide +kernel) (evX6_tell l G) ?_
  intro as h K hT
  match as, hT with
  | [.ref t, .int o, .int v], ⟨X, e1, w, hO, hK⟩ =>
  refine ⟨Nat.le_of_ble_eq_true rfl, fun F hF => ?_⟩
  show F 0 [.ref t, .int o, .int v] [] h 0 0
  obtain ⟨t, rfl⟩ : ∃ i : Nat, i = t := ⟨_, rfl⟩
  subst e1
  have hR := w.1
  rw [tellR_eq hO] at hK
  refine goX6_tell hF 40 ?_
  simp (disch := omega) only [wX6_tell_0, uX6_tell_0, wX6_tell_1, wX6_tell_4, uX6_tell_4, wX6_tell_5, wX6_tell_6, wX6_tell_7, wX6_tell_8, wX6_tell_11, uX6_tell_11, wX6_tell_14, uX6_tell_14, amSI_1, amSI_2, amSI_3, amSI_s, amU_at, amIsR_ref, amIsR_null, amIsR_rf, amRf_some, amRf_none, amClr_int, amClr_ref, amClr_null, amClr_long, amClr_ra, amClr_rf, amFit_int, amFit_oref, amFit_aref, amFit_onull, amFit_anull, amOptSome, amOptNone, List.cons_append, List.nil_append, true_and, and_true, true_implies, not_true_eq_false, not_false_eq_true, false_implies, and_self, Nat.add_zero, Nat.zero_add, ne_eq, Prod.mk.injEq, amC01_0, amC01_1, amC01_nb, amNb0, amNb1, amTcpI_d, Nat.reduceLeDiff, Nat.reduceAdd, Nat.reduceSub, Nat.reduceEqDiff, Nat.le_refl, amN0le, hR.s, hR.r]
  refine ⟨rfl, hR, fun m1 q1 q2 => ?_⟩
  refine goX6_tell hF 40 ?_
  simp (disch := omega) only [wX6_tell_0, uX6_tell_0, wX6_tell_1, wX6_tell_4, uX6_tell_4, wX6_tell_5, wX6_tell_6, wX6_tell_7, wX6_tell_8, wX6_tell_11, uX6_tell_11, wX6_tell_14, uX6_tell_14, amSI_1, amSI_2, amSI_3, amSI_s, amU_at, amIsR_ref, amIsR_null, amIsR_rf, amRf_some, amRf_none, amClr_int, amClr_ref, amClr_null, amClr_long, amClr_ra, amClr_rf, amFit_int, amFit_oref, amFit_aref, amFit_onull, amFit_anull, amOptSome, amOptNone, List.cons_append, List.nil_append, true_and, and_true, true_implies, not_true_eq_false, not_false_eq_true, false_implies, and_self, Nat.add_zero, Nat.zero_add, ne_eq, Prod.mk.injEq, amC01_0, amC01_1, amC01_nb, amNb0, amNb1, amTcpI_d, Nat.reduceLeDiff, Nat.reduceAdd, Nat.reduceSub, Nat.reduceEqDiff, Nat.le_refl, amN0le, hR.s, hR.r]
  refine ⟨X.1, rfl, (w.sys hO).hold q2, fun m2 r1 r2 => ?_⟩
  refine goX6_tell hF 40 ?_
  simp (disch := omega) only [wX6_tell_0, uX6_tell_0, wX6_tell_1, wX6_tell_4, uX6_tell_4, wX6_tell_5, wX6_tell_6, wX6_tell_7, wX6_tell_8, wX6_tell_11, uX6_tell_11, wX6_tell_14, uX6_tell_14, amSI_1, amSI_2, amSI_3, amSI_s, amU_at, amIsR_ref, amIsR_null, amIsR_rf, amRf_some, amRf_none, amClr_int, amClr_ref, amClr_null, amClr_long, amClr_ra, amClr_rf, amFit_int, amFit_oref, amFit_aref, amFit_onull, amFit_anull, amOptSome, amOptNone, List.cons_append, List.nil_append, true_and, and_true, true_implies, not_true_eq_false, not_false_eq_true, false_implies, and_self, Nat.add_zero, Nat.zero_add, ne_eq, Prod.mk.injEq, amC01_0, amC01_1, amC01_nb, amNb0, amNb1, amTcpI_d, Nat.reduceLeDiff, Nat.reduceAdd, Nat.reduceSub, Nat.reduceEqDiff, Nat.le_refl, amN0le, hR.s, hR.r]
  refine ⟨X.1, X.2.1, rfl, hR, w.first q1 r2, w.past q2 r2, fun m3 s1 s2 s3 => ?_⟩
  obtain ⟨g1, g2⟩ := w.act q2 r1 r2 s1 s2 s3
  have key := hK _ g1 g2
  refine goX6_tell hF 40 ?_
  simp (disch := omega) only [wX6_tell_0, uX6_tell_0, wX6_tell_1, wX6_tell_4, uX6_tell_4, wX6_tell_5, wX6_tell_6, wX6_tell_7, wX6_tell_8, wX6_tell_11, uX6_tell_11, wX6_tell_14, uX6_tell_14, amSI_1, amSI_2, amSI_3, amSI_s, amU_at, amIsR_ref, amIsR_null, amIsR_rf, amRf_some, amRf_none, amClr_int, amClr_ref, amClr_null, amClr_long, amClr_ra, amClr_rf, amFit_int, amFit_oref, amFit_aref, amFit_onull, amFit_anull, amOptSome, amOptNone, List.cons_append, List.nil_append, true_and, and_true, true_implies, not_true_eq_false, not_false_eq_true, false_implies, and_self, Nat.add_zero, Nat.zero_add, ne_eq, Prod.mk.injEq, amC01_0, amC01_1, amC01_nb, amNb0, amNb1, amTcpI_d, Nat.reduceLeDiff, Nat.reduceAdd, Nat.reduceSub, Nat.reduceEqDiff, Nat.le_refl, amN0le, hR.s, hR.r]
  exact amRet.of (by decide) (by decide) key
theorem tX6_tell_d {t : Nat} {o v : Int32} {h : amH} {K : Option Value → amH → Prop} : tX6_tell [.ref t, .int o, .int v] h K = ∃ X : XS, t = (124 : Nat) ∧ MdW h X ∧ hsOk X.1 ∧ ∀ h', msFr h h' → MdW h' (tellR X o v).1 → K (some (.int (tellR X o v).2)) h' := rfl
def tX6_move : amT := fun as h K => match as with
  | [.ref t, .int p, .int q] => ∃ X : XS, t = (124 : Nat) ∧ MdW h X ∧ hsOk X.1 ∧ ∀ h', msFr h h' → MdW h' (moveR X p q).1 → K (some (.int (moveR X p q).2)) h'
  | _ => False
/-! ReadingStagesModel.move(II)I -/
def kX6_move : Nat → Bool := fun pc => pc == 4 || pc == 11 || pc == 14
def rX6_move : List (Nat × amS) := [(1, 1, 0, 0, (amRecv 6 tX6_holds)), (8, 3, 0, 0, (amRecv 6 tX6_shifts)), (11, 2, 0, 0, (amRecv 6 tX6_acted))]
def eX6_move (ret : Option Value → amH → Nat → Nat → Prop) (F : amX) : Nat → amX := amWp cX6_move kX6_move (amLk rX6_move) (some .int) 0 0 ret F
def sX6_move (ret : Option Value → amH → Nat → Nat → Prop) (F : amX) : Nat → amX := amWs cX6_move kX6_move (amLk rX6_move) (some .int) 0 0 ret F
theorem wX6_move_0 {ret F n h} {v0 v1 v2 st} : eX6_move ret F (n + 1) 0 [v0, v1, v2] (st) h 0 0 = (amIsR v0 ∧ eX6_move ret F n 1 [v0, v1, v2] (v0 :: st) h 0 0) := (amWp_dec rfl dX6_move_0 rfl).trans rfl
theorem uX6_move_0 {ret F n h} {v0 v1 v2 st} : sX6_move ret F n 0 [v0, v1, v2] (st) h 0 0 = (amIsR v0 ∧ eX6_move ret F n 1 [v0, v1, v2] (v0 :: st) h 0 0) := (amWs_dec dX6_move_0 rfl).trans rfl
theorem wX6_move_1 {ret F n h} {v0 v1 v2 x0} : eX6_move ret F (n + 1) 1 [v0, v1, v2] (.ref x0 :: []) h 0 0 = (h.1 x0 = (0, 6) ∧ tX6_holds [.ref x0] h (fun v h => eX6_move ret F n 4 [v0, v1, v2] (v.toList ++ ([])) h 0 0)) := (amWp_dec rfl dX6_move_1 rfl).trans (amS4 (Nat.le_of_ble_eq_true rfl) (Nat.le_of_ble_eq_true rfl) (Nat.le_of_ble_eq_true rfl) (Nat.le_of_ble_eq_true rfl))
theorem wX6_move_4 {ret F n ls st h k z} : eX6_move ret F (n + 1) 4 ls st h k z = F 4 ls st h k z := amWp_cut rfl
theorem uX6_move_4 {ret F n h} {v0 v1 v2 st} : sX6_move ret F n 4 [v0, v1, v2] (st) h 0 0 = (amIsR v0 ∧ eX6_move ret F n 5 [v0, v1, v2] (v0 :: st) h 0 0) := (amWs_dec dX6_move_4 rfl).trans rfl
theorem wX6_move_5 {ret F n h} {v0 v1 v2 st} : eX6_move ret F (n + 1) 5 [v0, v1, v2] (st) h 0 0 = (amIsR v0 ∧ eX6_move ret F n 6 [v0, v1, v2] (v0 :: st) h 0 0) := (amWp_dec rfl dX6_move_5 rfl).trans rfl
theorem wX6_move_6 {ret F n h} {v0 v2 st x} : eX6_move ret F (n + 1) 6 [v0, .int x, v2] (st) h 0 0 = (eX6_move ret F n 7 [v0, .int x, v2] (.int x :: st) h 0 0) := (amWp_dec rfl dX6_move_6 rfl).trans rfl
theorem wX6_move_7 {ret F n h} {v0 v1 st x} : eX6_move ret F (n + 1) 7 [v0, v1, .int x] (st) h 0 0 = (eX6_move ret F n 8 [v0, v1, .int x] (.int x :: st) h 0 0) := (amWp_dec rfl dX6_move_7 rfl).trans rfl
theorem wX6_move_8 {ret F n h} {v0 v1 v2 x2 x1 x0 r0} : eX6_move ret F (n + 1) 8 [v0, v1, v2] (.int x2 :: .int x1 :: .ref x0 :: r0 :: []) h 0 0 = (h.1 x0 = (0, 6) ∧ tX6_shifts [.ref x0, .int x1, .int x2] h (fun v h => eX6_move ret F n 11 [v0, v1, v2] (v.toList ++ (r0 :: [])) h 0 0)) := (amWp_dec rfl dX6_move_8 rfl).trans (amS4 (Nat.le_of_ble_eq_true rfl) (Nat.le_of_ble_eq_true rfl) (Nat.le_of_ble_eq_true rfl) (Nat.le_of_ble_eq_true rfl))
theorem wX6_move_11 {ret F n ls st h k z} : eX6_move ret F (n + 1) 11 ls st h k z = F 11 ls st h k z := amWp_cut rfl
theorem uX6_move_11 {ret F n h} {v0 v1 v2 x1 x0} : sX6_move ret F n 11 [v0, v1, v2] (.int x1 :: .ref x0 :: []) h 0 0 = (h.1 x0 = (0, 6) ∧ tX6_acted [.ref x0, .int x1] h (fun v h => eX6_move ret F n 14 [v0, v1, v2] (v.toList ++ ([])) h 0 0)) := (amWs_dec dX6_move_11 rfl).trans (amS4 (Nat.le_of_ble_eq_true rfl) (Nat.le_of_ble_eq_true rfl) (Nat.le_of_ble_eq_true rfl) (Nat.le_of_ble_eq_true rfl))
theorem wX6_move_14 {ret F n ls st h k z} : eX6_move ret F (n + 1) 14 ls st h k z = F 14 ls st h k z := amWp_cut rfl
theorem uX6_move_14 {ret F n h} {v0 v1 v2 x} : sX6_move ret F n 14 [v0, v1, v2] ([.int x]) h 0 0 = (ret (some (.int x)) h 0 0) := (amWs_dec dX6_move_14 rfl).trans (amTrue ⟨_, rfl, rfl⟩)
theorem evX6_move (l : Launch) (G : amG) : ∀ pc S i sz, amLk rX6_move pc = some S → decode cX6_move pc = .ok (i, sz) → amSiteP pc G l yX6_move.cls yX6_move.name yX6_move.desc (amRm 3 0 0) i sz S.1 S.2.1 S.2.2.1 S.2.2.2 := amLk_ok (by
  refine List.forall_mem_cons.mpr ⟨⟨_, _, dX6_move_1, amSite.P (amSiteV (C := RX6) (metX6_holds l G) rfl (by decide) (by decide) (lw_V q1509 q1511 qs60 q94 q1512) ⟨_, rfl, rfl⟩ ⟨rfl, by decide +kernel, by decide +kernel, by decide +kernel⟩)⟩, ?_⟩
  refine List.forall_mem_cons.mpr ⟨⟨_, _, dX6_move_8, amSite.P (amSiteV (C := RX6) (metX6_shifts l G) rfl (by decide) (by decide) (lw_V q1583 q1585 qs70 q94 q1586) ⟨_, rfl, rfl⟩ ⟨rfl, by decide +kernel, by decide +kernel, by decide +kernel⟩)⟩, ?_⟩
  refine List.forall_mem_cons.mpr ⟨⟨_, _, dX6_move_11, amSite.P (amSiteV (C := RX6) (metX6_acted l G) rfl (by decide) (by decide) (lw_V q1521 q1523 qs62 q94 q1524) ⟨_, rfl, rfl⟩ ⟨rfl, by decide +kernel, by decide +kernel, by decide +kernel⟩)⟩, ?_⟩
  exact fun _ h => absurd h List.not_mem_nil)
theorem goX6_move {ret F} (hF : amCld cX6_move kX6_move (amLk rX6_move) (some .int) 0 0 ret F) (n : Nat) {pc ls st h k z} (q : sX6_move ret F n pc ls st h k z) : F pc ls st h k z := hF.1 n pc ls st h k z q
theorem metX6_move (l : Launch) (G : amG) : amMet l G yX6_move (ws_ yX6_move cX6_move 3 (some .int)) 3 0 0 tX6_move := by
  refine amMet_of (cut := kX6_move) (by decide +kernel) (evX6_move l G) ?_
  intro as h K hT
  match as, hT with
  | [.ref t, .int p, .int q], ⟨X, e1, w, hO, hK⟩ =>
  refine ⟨Nat.le_of_ble_eq_true rfl, fun F hF => ?_⟩
  show F 0 [.ref t, .int p, .int q] [] h 0 0
  obtain ⟨t, rfl⟩ : ∃ i : Nat, i = t := ⟨_, rfl⟩
  subst e1
  have hR := w.1
  rw [moveR_eq hO] at hK
  refine goX6_move hF 40 ?_
  simp (disch := omega) only [wX6_move_0, uX6_move_0, wX6_move_1, wX6_move_4, uX6_move_4, wX6_move_5, wX6_move_6, wX6_move_7, wX6_move_8, wX6_move_11, uX6_move_11, wX6_move_14, uX6_move_14, amSI_1, amSI_2, amSI_3, amSI_s, amU_at, amIsR_ref, amIsR_null, amIsR_rf, amRf_some, amRf_none, amClr_int, amClr_ref, amClr_null, amClr_long, amClr_ra, amClr_rf, amFit_int, amFit_oref, amFit_aref, amFit_onull, amFit_anull, amOptSome, amOptNone, List.cons_append, List.nil_append, true_and, and_true, true_implies, not_true_eq_false, not_false_eq_true, false_implies, and_self, Nat.add_zero, Nat.zero_add, ne_eq, Prod.mk.injEq, amC01_0, amC01_1, amC01_nb, amNb0, amNb1, amTcpI_d, Nat.reduceLeDiff, Nat.reduceAdd, Nat.reduceSub, Nat.reduceEqDiff, Nat.le_refl, amN0le, hR.s, hR.r]
  refine ⟨rfl, hR, fun m1 q1 q2 => ?_⟩
  refine goX6_move hF 40 ?_
  simp (disch := omega) only [wX6_move_0, uX6_move_0, wX6_move_1, wX6_move_4, uX6_move_4, wX6_move_5, wX6_move_6, wX6_move_7, wX6_move_8, wX6_move_11, uX6_move_11, wX6_move_14, uX6_move_14, amSI_1, amSI_2, amSI_3, amSI_s, amU_at, amIsR_ref, amIsR_null, amIsR_rf, amRf_some, amRf_none, amClr_int, amClr_ref, amClr_null, amClr_long, amClr_ra, amClr_rf, amFit_int, amFit_oref, amFit_aref, amFit_onull, amFit_anull, amOptSome, amOptNone, List.cons_append, List.nil_append, true_and, and_true, true_implies, not_true_eq_false, not_false_eq_true, false_implies, and_self, Nat.add_zero, Nat.zero_add, ne_eq, Prod.mk.injEq, amC01_0, amC01_1, amC01_nb, amNb0, amNb1, amTcpI_d, Nat.reduceLeDiff, Nat.reduceAdd, Nat.reduceSub, Nat.reduceEqDiff, Nat.le_refl, amN0le, hR.s, hR.r]
  refine ⟨X.1, rfl, (w.sys hO).hold q2, fun m2 r1 r2 => ?_⟩
  refine goX6_move hF 40 ?_
  simp (disch := omega) only [wX6_move_0, uX6_move_0, wX6_move_1, wX6_move_4, uX6_move_4, wX6_move_5, wX6_move_6, wX6_move_7, wX6_move_8, wX6_move_11, uX6_move_11, wX6_move_14, uX6_move_14, amSI_1, amSI_2, amSI_3, amSI_s, amU_at, amIsR_ref, amIsR_null, amIsR_rf, amRf_some, amRf_none, amClr_int, amClr_ref, amClr_null, amClr_long, amClr_ra, amClr_rf, amFit_int, amFit_oref, amFit_aref, amFit_onull, amFit_anull, amOptSome, amOptNone, List.cons_append, List.nil_append, true_and, and_true, true_implies, not_true_eq_false, not_false_eq_true, false_implies, and_self, Nat.add_zero, Nat.zero_add, ne_eq, Prod.mk.injEq, amC01_0, amC01_1, amC01_nb, amNb0, amNb1, amTcpI_d, Nat.reduceLeDiff, Nat.reduceAdd, Nat.reduceSub, Nat.reduceEqDiff, Nat.le_refl, amN0le, hR.s, hR.r]
  refine ⟨X.1, X.2.1, rfl, hR, w.first q1 r2, w.past q2 r2, fun m3 s1 s2 s3 => ?_⟩
  obtain ⟨g1, g2⟩ := w.act q2 r1 r2 s1 s2 s3
  have key := hK _ g1 g2
  refine goX6_move hF 40 ?_
  simp (disch := omega) only [wX6_move_0, uX6_move_0, wX6_move_1, wX6_move_4, uX6_move_4, wX6_move_5, wX6_move_6, wX6_move_7, wX6_move_8, wX6_move_11, uX6_move_11, wX6_move_14, uX6_move_14, amSI_1, amSI_2, amSI_3, amSI_s, amU_at, amIsR_ref, amIsR_null, amIsR_rf, amRf_some, amRf_none, amClr_int, amClr_ref, amClr_null, amClr_long, amClr_ra, amClr_rf, amFit_int, amFit_oref, amFit_aref, amFit_onull, amFit_anull, amOptSome, amOptNone, List.cons_append, List.nil_append, true_and, and_true, true_implies, not_true_eq_false, not_false_eq_true, false_implies, and_self, Nat.add_zero, Nat.zero_add, ne_eq, Prod.mk.injEq, amC01_0, amC01_1, amC01_nb, amNb0, amNb1, amTcpI_d, Nat.reduceLeDiff, Nat.reduceAdd, Nat.reduceSub, Nat.reduceEqDiff, Nat.le_refl, amN0le, hR.s, hR.r]
  exact amRet.of (by decide) (by decide) key
theorem tX6_move_d {t : Nat} {p q : Int32} {h : amH} {K : Option Value → amH → Prop} : tX6_move [.ref t, .int p, .int q] h K = ∃ X : XS, t = (124 : Nat) ∧ MdW h X ∧ hsOk X.1 ∧ ∀ h', msFr h h' → MdW h' (moveR X p q).1 → K (some (.int (moveR X p q).2)) h' := rfl
def tX6_settle : amT := fun as h K => match as with
  | [.ref t, .int o] => ∃ X : XS, t = (124 : Nat) ∧ MdW h X ∧ hsOk X.1 ∧ ∀ h', msFr h h' → MdW h' (settleR X o).1 → K (some (.int (settleR X o).2)) h'
  | _ => False
/-! ReadingStagesModel.settle(I)I -/
def kX6_settle : Nat → Bool := fun pc => pc == 4 || pc == 10 || pc == 13
def rX6_settle : List (Nat × amS) := [(1, 1, 0, 0, (amRecv 6 tX6_holds)), (7, 2, 0, 0, (amRecv 6 tX6_settles)), (10, 2, 0, 0, (amRecv 6 tX6_acted))]
def eX6_settle (ret : Option Value → amH → Nat → Nat → Prop) (F : amX) : Nat → amX := amWp cX6_settle kX6_settle (amLk rX6_settle) (some .int) 0 0 ret F
def sX6_settle (ret : Option Value → amH → Nat → Nat → Prop) (F : amX) : Nat → amX := amWs cX6_settle kX6_settle (amLk rX6_settle) (some .int) 0 0 ret F
theorem wX6_settle_0 {ret F n h} {v0 v1 st} : eX6_settle ret F (n + 1) 0 [v0, v1] (st) h 0 0 = (amIsR v0 ∧ eX6_settle ret F n 1 [v0, v1] (v0 :: st) h 0 0) := (amWp_dec rfl dX6_settle_0 rfl).trans rfl
theorem uX6_settle_0 {ret F n h} {v0 v1 st} : sX6_settle ret F n 0 [v0, v1] (st) h 0 0 = (amIsR v0 ∧ eX6_settle ret F n 1 [v0, v1] (v0 :: st) h 0 0) := (amWs_dec dX6_settle_0 rfl).trans rfl
theorem wX6_settle_1 {ret F n h} {v0 v1 x0} : eX6_settle ret F (n + 1) 1 [v0, v1] (.ref x0 :: []) h 0 0 = (h.1 x0 = (0, 6) ∧ tX6_holds [.ref x0] h (fun v h => eX6_settle ret F n 4 [v0, v1] (v.toList ++ ([])) h 0 0)) := (amWp_dec rfl dX6_settle_1 rfl).trans (amS4 (Nat.le_of_ble_eq_true rfl) (Nat.le_of_ble_eq_true rfl) (Nat.le_of_ble_eq_true rfl) (Nat.le_of_ble_eq_true rfl))
theorem wX6_settle_4 {ret F n ls st h k z} : eX6_settle ret F (n + 1) 4 ls st h k z = F 4 ls st h k z := amWp_cut rfl
theorem uX6_settle_4 {ret F n h} {v0 v1 st} : sX6_settle ret F n 4 [v0, v1] (st) h 0 0 = (amIsR v0 ∧ eX6_settle ret F n 5 [v0, v1] (v0 :: st) h 0 0) := (amWs_dec dX6_settle_4 rfl).trans rfl
theorem wX6_settle_5 {ret F n h} {v0 v1 st} : eX6_settle ret F (n + 1) 5 [v0, v1] (st) h 0 0 = (amIsR v0 ∧ eX6_settle ret F n 6 [v0, v1] (v0 :: st) h 0 0) := (amWp_dec rfl dX6_settle_5 rfl).trans rfl
theorem wX6_settle_6 {ret F n h} {v0 st x} : eX6_settle ret F (n + 1) 6 [v0, .int x] (st) h 0 0 = (eX6_settle ret F n 7 [v0, .int x] (.int x :: st) h 0 0) := (amWp_dec rfl dX6_settle_6 rfl).trans rfl
theorem wX6_settle_7 {ret F n h} {v0 v1 x1 x0 r0} : eX6_settle ret F (n + 1) 7 [v0, v1] (.int x1 :: .ref x0 :: r0 :: []) h 0 0 = (h.1 x0 = (0, 6) ∧ tX6_settles [.ref x0, .int x1] h (fun v h => eX6_settle ret F n 10 [v0, v1] (v.toList ++ (r0 :: [])) h 0 0)) := (amWp_dec rfl dX6_settle_7 rfl).trans (amS4 (Nat.le_of_ble_eq_true rfl) (Nat.le_of_ble_eq_true rfl) (Nat.le_of_ble_eq_true rfl) (Nat.le_of_ble_eq_true rfl))
theorem wX6_settle_10 {ret F n ls st h k z} : eX6_settle ret F (n + 1) 10 ls st h k z = F 10 ls st h k z := amWp_cut rfl
theorem uX6_settle_10 {ret F n h} {v0 v1 x1 x0} : sX6_settle ret F n 10 [v0, v1] (.int x1 :: .ref x0 :: []) h 0 0 = (h.1 x0 = (0, 6) ∧ tX6_acted [.ref x0, .int x1] h (fun v h => eX6_settle ret F n 13 [v0, v1] (v.toList ++ ([])) h 0 0)) := (amWs_dec dX6_settle_10 rfl).trans (amS4 (Nat.le_of_ble_eq_true rfl) (Nat.le_of_ble_eq_true rfl) (Nat.le_of_ble_eq_true rfl) (Nat.le_of_ble_eq_true rfl))
theorem wX6_settle_13 {ret F n ls st h k z} : eX6_settle ret F (n + 1) 13 ls st h k z = F 13 ls st h k z := amWp_cut rfl
theorem uX6_settle_13 {ret F n h} {v0 v1 x} : sX6_settle ret F n 13 [v0, v1] ([.int x]) h 0 0 = (ret (some (.int x)) h 0 0) := (amWs_dec dX6_settle_13 rfl).trans (amTrue ⟨_, rfl, rfl⟩)
theorem evX6_settle (l : Launch) (G : amG) : ∀ pc S i sz, amLk rX6_settle pc = some S → decode cX6_settle pc = .ok (i, sz) → amSiteP pc G l yX6_settle.cls yX6_settle.name yX6_settle.desc (amRm 6 0 0) i sz S.1 S.2.1 S.2.2.1 S.2.2.2 := amLk_ok (by
  refine List.forall_mem_cons.mpr ⟨⟨_, _, dX6_settle_1, amSite.P (amSiteV (C := RX6) (metX6_holds l G) rfl (by decide) (by decide) (lw_V q1509 q1511 qs60 q94 q1512) ⟨_, rfl, rfl⟩ ⟨rfl, by decide +kernel, by decide +kernel, by decide +kernel⟩)⟩, ?_⟩
  refine List.forall_mem_cons.mpr ⟨⟨_, _, dX6_settle_7, amSite.P (amSiteV (C := RX6) (metX6_settles l G) rfl (by decide) (by decide) (lw_V q1591 q1593 qs71 q94 q1594) ⟨_, rfl, rfl⟩ ⟨rfl, by decide +kernel, by decide +kernel, by decide +kernel⟩)⟩, ?_⟩
  refine List.forall_mem_cons.mpr ⟨⟨_, _, dX6_settle_10, amSite.P (amSiteV (C := RX6) (metX6_acted l G) rfl (by decide) (by decide) (lw_V q1521 q1523 qs62 q94 q1524) ⟨_, rfl, rfl⟩ ⟨rfl, by decide +kernel, by decide +kernel, by decide +kernel⟩)⟩, ?_⟩
  exact fun _ h => absurd h List.not_mem_nil)
theorem goX6_settle {ret F} (hF : amCld cX6_settle kX6_settle (amLk rX6_settle) (some .int) 0 0 ret F) (n : Nat) {pc ls st h k z} (q : sX6_settle ret F n pc ls st h k z) : F pc ls st h k z := hF.1 n pc ls st h k z q
theorem metX6_settle (l : Launch) (G : amG) : amMet l G yX6_settle (ws_ yX6_settle cX6_settle 2 (some .int)) 6 0 0 tX6_settle := by
  refine amMet_of (cut := kX6_settle) (by decide +kernel) (evX6_settle l G) ?_
  intro as h K hT
  match as, hT with
  | [.ref t, .int o], ⟨X, e1, w, hO, hK⟩ =>
  refine ⟨Nat.le_of_ble_eq_true rfl, fun F hF => ?_⟩
  show F 0 [.ref t, .int o] [] h 0 0
  obtain ⟨t, rfl⟩ : ∃ i : Nat, i = t := ⟨_, rfl⟩
  subst e1
  have hR := w.1
  rw [settleR_eq hO] at hK
  refine goX6_settle hF 40 ?_
  simp (disch := omega) only [wX6_settle_0, uX6_settle_0, wX6_settle_1, wX6_settle_4, uX6_settle_4, wX6_settle_5, wX6_settle_6, wX6_settle_7, wX6_settle_10, uX6_settle_10, wX6_settle_13, uX6_settle_13, amSI_1, amSI_2, amSI_3, amSI_s, amU_at, amIsR_ref, amIsR_null, amIsR_rf, amRf_some, amRf_none, amClr_int, amClr_ref, amClr_null, amClr_long, amClr_ra, amClr_rf, amFit_int, amFit_oref, amFit_aref, amFit_onull, amFit_anull, amOptSome, amOptNone, List.cons_append, List.nil_append, true_and, and_true, true_implies, not_true_eq_false, not_false_eq_true, false_implies, and_self, Nat.add_zero, Nat.zero_add, ne_eq, Prod.mk.injEq, amC01_0, amC01_1, amC01_nb, amNb0, amNb1, amTcpI_d, Nat.reduceLeDiff, Nat.reduceAdd, Nat.reduceSub, Nat.reduceEqDiff, Nat.le_refl, amN0le, hR.s, hR.r]
  refine ⟨rfl, hR, fun m1 q1 q2 => ?_⟩
  refine goX6_settle hF 40 ?_
  simp (disch := omega) only [wX6_settle_0, uX6_settle_0, wX6_settle_1, wX6_settle_4, uX6_settle_4, wX6_settle_5, wX6_settle_6, wX6_settle_7, wX6_settle_10, uX6_settle_10, wX6_settle_13, uX6_settle_13, amSI_1, amSI_2, amSI_3, amSI_s, amU_at, amIsR_ref, amIsR_null, amIsR_rf, amRf_some, amRf_none, amClr_int, amClr_ref, amClr_null, amClr_long, amClr_ra, amClr_rf, amFit_int, amFit_oref, amFit_aref, amFit_onull, amFit_anull, amOptSome, amOptNone, List.cons_append, List.nil_append, true_and, and_true, true_implies, not_true_eq_false, not_false_eq_true, false_implies, and_self, Nat.add_zero, Nat.zero_add, ne_eq, Prod.mk.injEq, amC01_0, amC01_1, amC01_nb, amNb0, amNb1, amTcpI_d, Nat.reduceLeDiff, Nat.reduceAdd, Nat.reduceSub, Nat.reduceEqDiff, Nat.le_refl, amN0le, hR.s, hR.r]
  refine ⟨X.1, rfl, (w.sys hO).hold q2, fun m2 r1 r2 => ?_⟩
  refine goX6_settle hF 40 ?_
  simp (disch := omega) only [wX6_settle_0, uX6_settle_0, wX6_settle_1, wX6_settle_4, uX6_settle_4, wX6_settle_5, wX6_settle_6, wX6_settle_7, wX6_settle_10, uX6_settle_10, wX6_settle_13, uX6_settle_13, amSI_1, amSI_2, amSI_3, amSI_s, amU_at, amIsR_ref, amIsR_null, amIsR_rf, amRf_some, amRf_none, amClr_int, amClr_ref, amClr_null, amClr_long, amClr_ra, amClr_rf, amFit_int, amFit_oref, amFit_aref, amFit_onull, amFit_anull, amOptSome, amOptNone, List.cons_append, List.nil_append, true_and, and_true, true_implies, not_true_eq_false, not_false_eq_true, false_implies, and_self, Nat.add_zero, Nat.zero_add, ne_eq, Prod.mk.injEq, amC01_0, amC01_1, amC01_nb, amNb0, amNb1, amTcpI_d, Nat.reduceLeDiff, Nat.reduceAdd, Nat.reduceSub, Nat.reduceEqDiff, Nat.le_refl, amN0le, hR.s, hR.r]
  refine ⟨X.1, X.2.1, rfl, hR, w.first q1 r2, w.past q2 r2, fun m3 s1 s2 s3 => ?_⟩
  obtain ⟨g1, g2⟩ := w.act q2 r1 r2 s1 s2 s3
  have key := hK _ g1 g2
  refine goX6_settle hF 40 ?_
  simp (disch := omega) only [wX6_settle_0, uX6_settle_0, wX6_settle_1, wX6_settle_4, uX6_settle_4, wX6_settle_5, wX6_settle_6, wX6_settle_7, wX6_settle_10, uX6_settle_10, wX6_settle_13, uX6_settle_13, amSI_1, amSI_2, amSI_3, amSI_s, amU_at, amIsR_ref, amIsR_null, amIsR_rf, amRf_some, amRf_none, amClr_int, amClr_ref, amClr_null, amClr_long, amClr_ra, amClr_rf, amFit_int, amFit_oref, amFit_aref, amFit_onull, amFit_anull, amOptSome, amOptNone, List.cons_append, List.nil_append, true_and, and_true, true_implies, not_true_eq_false, not_false_eq_true, false_implies, and_self, Nat.add_zero, Nat.zero_add, ne_eq, Prod.mk.injEq, amC01_0, amC01_1, amC01_nb, amNb0, amNb1, amTcpI_d, Nat.reduceLeDiff, Nat.reduceAdd, Nat.reduceSub, Nat.reduceEqDiff, Nat.le_refl, amN0le, hR.s, hR.r]
  exact amRet.of (by decide) (by decide) key
theorem tX6_settle_d {t : Nat} {o : Int32} {h : amH} {K : Option Value → amH → Prop} : tX6_settle [.ref t, .int o] h K = ∃ X : XS, t = (124 : Nat) ∧ MdW h X ∧ hsOk X.1 ∧ ∀ h', msFr h h' → MdW h' (settleR X o).1 → K (some (.int (settleR X o).2)) h' := rfl
