/-! the reference's inner acts: tells, loses -/
set_option maxRecDepth 100000
theorem figN_at {m : Nat → Nat → Int32} {a : Nat} {S : HS} (h : RwIs m a 0 S) {w : Nat} (hw : w < 3) : m a (2 + w) = nI (figN S w) := by
  rcases (show w = 0 ∨ w = 1 ∨ w = 2 by omega) with e | e | e
  · subst e; exact h.span
  · subst e; exact h.bound
  · subst e; exact h.rule
theorem figN_lt {S : HS} (h : hsOk S) (w : Nat) : figN S w ≤ 20 := by
  have h1 := h.B.2.1
  have h2 := h.B.2.2.1
  have h3 := h.bd
  unfold figN
  split
  · omega
  · split <;> omega
def tX6_tells : amT := fun as h K => match as with
  | [.ref a, .int w, .int v] => ∃ S : HS, a = (124 : Nat) ∧ mdSys h S ∧ ∀ m', RwIs m' 125 0 (tllR S w v).1 → maFr h.2.1 m' → K (some (.int (tllR S w v).2)) (amSI h m')
  | _ => False
/-! ReadingStagesModel.tells(II)I -/
def kX6_tells : Nat → Bool := fun pc => pc == 55
def rX6_tells : List (Nat × amS) := [(7, 0, 0, 0, amTcon (.long (4))), (10, 3, 0, 0, tX6_in), (24, 0, 0, 0, amTcon (.long (20))), (27, 3, 0, 0, tX6_in), (41, 0, 0, 0, amTcon (.long (2))), (44, 3, 0, 0, tX6_in), (63, 1, 0, 0, amTget 6 0), (82, 1, 0, 0, amTget 6 0)]
def eX6_tells (ret : Option Value → amH → Nat → Nat → Prop) (F : amX) : Nat → amX := amWp cX6_tells kX6_tells (amLk rX6_tells) (some .int) 0 0 ret F
def sX6_tells (ret : Option Value → amH → Nat → Nat → Prop) (F : amX) : Nat → amX := amWs cX6_tells kX6_tells (amLk rX6_tells) (some .int) 0 0 ret F
theorem wX6_tells_0 {ret F n h} {v0 v2 v3 v4 st x} : eX6_tells ret F (n + 1) 0 [v0, .int x, v2, v3, v4] (st) h 0 0 = (eX6_tells ret F n 1 [v0, .int x, v2, v3, v4] (.int x :: st) h 0 0) := (amWp_dec rfl dX6_tells_0 rfl).trans rfl
theorem uX6_tells_0 {ret F n h} {v0 v2 v3 v4 st x} : sX6_tells ret F n 0 [v0, .int x, v2, v3, v4] (st) h 0 0 = (eX6_tells ret F n 1 [v0, .int x, v2, v3, v4] (.int x :: st) h 0 0) := (amWs_dec dX6_tells_0 rfl).trans rfl
theorem wX6_tells_1 {ret F n h} {v0 v1 v2 v3 v4 st x} : eX6_tells ret F (n + 1) 1 [v0, v1, v2, v3, v4] (.int x :: st) h 0 0 = ((¬ x = 0 → eX6_tells ret F n 16 [v0, v1, v2, v3, v4] (st) h 0 0) ∧ (x = 0 → eX6_tells ret F n 4 [v0, v1, v2, v3, v4] (st) h 0 0)) := (amWp_dec rfl dX6_tells_1 rfl).trans rfl
theorem wX6_tells_4 {ret F n h} {v0 v1 v3 v4 st x} : eX6_tells ret F (n + 1) 4 [v0, v1, .int x, v3, v4] (st) h 0 0 = (eX6_tells ret F n 5 [v0, v1, .int x, v3, v4] (.int x :: st) h 0 0) := (amWp_dec rfl dX6_tells_4 rfl).trans rfl
theorem wX6_tells_5 {ret F n h} {v0 v1 v2 v3 v4 st x} : eX6_tells ret F (n + 1) 5 [v0, v1, v2, v3, v4] (.int x :: st) h 0 0 = (eX6_tells ret F n 6 [v0, v1, v2, v3, v4] (.long x.toInt64 :: st) h 0 0) := (amWp_dec rfl dX6_tells_5 rfl).trans rfl
theorem wX6_tells_6 {ret F n h} {v0 v1 v2 v3 v4 st} : eX6_tells ret F (n + 1) 6 [v0, v1, v2, v3, v4] (st) h 0 0 = (eX6_tells ret F n 7 [v0, v1, v2, v3, v4] (.long (lN 1) :: st) h 0 0) := (amWp_dec rfl dX6_tells_6 rfl).trans rfl
theorem wX6_tells_7 {ret F n h} {v0 v1 v2 v3 v4 r0 r1} : eX6_tells ret F (n + 1) 7 [v0, v1, v2, v3, v4] (r0 :: r1 :: []) h 0 0 = (eX6_tells ret F n 10 [v0, v1, v2, v3, v4] (.long (lN 4) :: r0 :: r1 :: []) h 0 0) := (amWp_dec rfl dX6_tells_7 rfl).trans (amS4 (Nat.le_of_ble_eq_true rfl) (Nat.le_of_ble_eq_true rfl) (Nat.le_of_ble_eq_true rfl) (Nat.le_of_ble_eq_true rfl))
theorem wX6_tells_10 {ret F n h} {v0 v1 v2 v3 v4 x2 x1 x0} : eX6_tells ret F (n + 1) 10 [v0, v1, v2, v3, v4] (.long x2 :: .long x1 :: .long x0 :: []) h 0 0 = (tX6_in [.long x0, .long x1, .long x2] h (fun v h => eX6_tells ret F n 13 [v0, v1, v2, v3, v4] (v.toList ++ ([])) h 0 0)) := (amWp_dec rfl dX6_tells_10 rfl).trans (amS4 (Nat.le_of_ble_eq_true rfl) (Nat.le_of_ble_eq_true rfl) (Nat.le_of_ble_eq_true rfl) (Nat.le_of_ble_eq_true rfl))
theorem wX6_tells_13 {ret F n h} {v0 v1 v2 v3 v4 st} : eX6_tells ret F (n + 1) 13 [v0, v1, v2, v3, v4] (st) h 0 0 = (eX6_tells ret F n 55 [v0, v1, v2, v3, v4] (st) h 0 0) := (amWp_dec rfl dX6_tells_13 rfl).trans rfl
theorem wX6_tells_16 {ret F n h} {v0 v2 v3 v4 st x} : eX6_tells ret F (n + 1) 16 [v0, .int x, v2, v3, v4] (st) h 0 0 = (eX6_tells ret F n 17 [v0, .int x, v2, v3, v4] (.int x :: st) h 0 0) := (amWp_dec rfl dX6_tells_16 rfl).trans rfl
theorem wX6_tells_17 {ret F n h} {v0 v1 v2 v3 v4 st} : eX6_tells ret F (n + 1) 17 [v0, v1, v2, v3, v4] (st) h 0 0 = (eX6_tells ret F n 18 [v0, v1, v2, v3, v4] (.int (nI 1) :: st) h 0 0) := (amWp_dec rfl dX6_tells_17 rfl).trans rfl
theorem wX6_tells_18 {ret F n h} {v0 v1 v2 v3 v4 st y x} : eX6_tells ret F (n + 1) 18 [v0, v1, v2, v3, v4] (.int y :: .int x :: st) h 0 0 = ((¬ x = y → eX6_tells ret F n 33 [v0, v1, v2, v3, v4] (st) h 0 0) ∧ (x = y → eX6_tells ret F n 21 [v0, v1, v2, v3, v4] (st) h 0 0)) := (amWp_dec rfl dX6_tells_18 rfl).trans rfl
theorem wX6_tells_21 {ret F n h} {v0 v1 v3 v4 st x} : eX6_tells ret F (n + 1) 21 [v0, v1, .int x, v3, v4] (st) h 0 0 = (eX6_tells ret F n 22 [v0, v1, .int x, v3, v4] (.int x :: st) h 0 0) := (amWp_dec rfl dX6_tells_21 rfl).trans rfl
theorem wX6_tells_22 {ret F n h} {v0 v1 v2 v3 v4 st x} : eX6_tells ret F (n + 1) 22 [v0, v1, v2, v3, v4] (.int x :: st) h 0 0 = (eX6_tells ret F n 23 [v0, v1, v2, v3, v4] (.long x.toInt64 :: st) h 0 0) := (amWp_dec rfl dX6_tells_22 rfl).trans rfl
theorem wX6_tells_23 {ret F n h} {v0 v1 v2 v3 v4 st} : eX6_tells ret F (n + 1) 23 [v0, v1, v2, v3, v4] (st) h 0 0 = (eX6_tells ret F n 24 [v0, v1, v2, v3, v4] (.long (lN 0) :: st) h 0 0) := (amWp_dec rfl dX6_tells_23 rfl).trans rfl
theorem wX6_tells_24 {ret F n h} {v0 v1 v2 v3 v4 r0 r1} : eX6_tells ret F (n + 1) 24 [v0, v1, v2, v3, v4] (r0 :: r1 :: []) h 0 0 = (eX6_tells ret F n 27 [v0, v1, v2, v3, v4] (.long (lN 20) :: r0 :: r1 :: []) h 0 0) := (amWp_dec rfl dX6_tells_24 rfl).trans (amS4 (Nat.le_of_ble_eq_true rfl) (Nat.le_of_ble_eq_true rfl) (Nat.le_of_ble_eq_true rfl) (Nat.le_of_ble_eq_true rfl))
theorem wX6_tells_27 {ret F n h} {v0 v1 v2 v3 v4 x2 x1 x0} : eX6_tells ret F (n + 1) 27 [v0, v1, v2, v3, v4] (.long x2 :: .long x1 :: .long x0 :: []) h 0 0 = (tX6_in [.long x0, .long x1, .long x2] h (fun v h => eX6_tells ret F n 30 [v0, v1, v2, v3, v4] (v.toList ++ ([])) h 0 0)) := (amWp_dec rfl dX6_tells_27 rfl).trans (amS4 (Nat.le_of_ble_eq_true rfl) (Nat.le_of_ble_eq_true rfl) (Nat.le_of_ble_eq_true rfl) (Nat.le_of_ble_eq_true rfl))
theorem wX6_tells_30 {ret F n h} {v0 v1 v2 v3 v4 st} : eX6_tells ret F (n + 1) 30 [v0, v1, v2, v3, v4] (st) h 0 0 = (eX6_tells ret F n 55 [v0, v1, v2, v3, v4] (st) h 0 0) := (amWp_dec rfl dX6_tells_30 rfl).trans rfl
theorem wX6_tells_33 {ret F n h} {v0 v2 v3 v4 st x} : eX6_tells ret F (n + 1) 33 [v0, .int x, v2, v3, v4] (st) h 0 0 = (eX6_tells ret F n 34 [v0, .int x, v2, v3, v4] (.int x :: st) h 0 0) := (amWp_dec rfl dX6_tells_33 rfl).trans rfl
theorem wX6_tells_34 {ret F n h} {v0 v1 v2 v3 v4 st} : eX6_tells ret F (n + 1) 34 [v0, v1, v2, v3, v4] (st) h 0 0 = (eX6_tells ret F n 35 [v0, v1, v2, v3, v4] (.int (nI 2) :: st) h 0 0) := (amWp_dec rfl dX6_tells_34 rfl).trans rfl
theorem wX6_tells_35 {ret F n h} {v0 v1 v2 v3 v4 st y x} : eX6_tells ret F (n + 1) 35 [v0, v1, v2, v3, v4] (.int y :: .int x :: st) h 0 0 = ((¬ x = y → eX6_tells ret F n 54 [v0, v1, v2, v3, v4] (st) h 0 0) ∧ (x = y → eX6_tells ret F n 38 [v0, v1, v2, v3, v4] (st) h 0 0)) := (amWp_dec rfl dX6_tells_35 rfl).trans rfl
theorem wX6_tells_38 {ret F n h} {v0 v1 v3 v4 st x} : eX6_tells ret F (n + 1) 38 [v0, v1, .int x, v3, v4] (st) h 0 0 = (eX6_tells ret F n 39 [v0, v1, .int x, v3, v4] (.int x :: st) h 0 0) := (amWp_dec rfl dX6_tells_38 rfl).trans rfl
theorem wX6_tells_39 {ret F n h} {v0 v1 v2 v3 v4 st x} : eX6_tells ret F (n + 1) 39 [v0, v1, v2, v3, v4] (.int x :: st) h 0 0 = (eX6_tells ret F n 40 [v0, v1, v2, v3, v4] (.long x.toInt64 :: st) h 0 0) := (amWp_dec rfl dX6_tells_39 rfl).trans rfl
theorem wX6_tells_40 {ret F n h} {v0 v1 v2 v3 v4 st} : eX6_tells ret F (n + 1) 40 [v0, v1, v2, v3, v4] (st) h 0 0 = (eX6_tells ret F n 41 [v0, v1, v2, v3, v4] (.long (lN 0) :: st) h 0 0) := (amWp_dec rfl dX6_tells_40 rfl).trans rfl
theorem wX6_tells_41 {ret F n h} {v0 v1 v2 v3 v4 r0 r1} : eX6_tells ret F (n + 1) 41 [v0, v1, v2, v3, v4] (r0 :: r1 :: []) h 0 0 = (eX6_tells ret F n 44 [v0, v1, v2, v3, v4] (.long (lN 2) :: r0 :: r1 :: []) h 0 0) := (amWp_dec rfl dX6_tells_41 rfl).trans (amS4 (Nat.le_of_ble_eq_true rfl) (Nat.le_of_ble_eq_true rfl) (Nat.le_of_ble_eq_true rfl) (Nat.le_of_ble_eq_true rfl))
theorem wX6_tells_44 {ret F n h} {v0 v1 v2 v3 v4 x2 x1 x0} : eX6_tells ret F (n + 1) 44 [v0, v1, v2, v3, v4] (.long x2 :: .long x1 :: .long x0 :: []) h 0 0 = (tX6_in [.long x0, .long x1, .long x2] h (fun v h => eX6_tells ret F n 47 [v0, v1, v2, v3, v4] (v.toList ++ ([])) h 0 0)) := (amWp_dec rfl dX6_tells_44 rfl).trans (amS4 (Nat.le_of_ble_eq_true rfl) (Nat.le_of_ble_eq_true rfl) (Nat.le_of_ble_eq_true rfl) (Nat.le_of_ble_eq_true rfl))
theorem wX6_tells_47 {ret F n h} {v0 v1 v2 v3 v4 st x} : eX6_tells ret F (n + 1) 47 [v0, v1, v2, v3, v4] (.int x :: st) h 0 0 = ((x = 0 → eX6_tells ret F n 54 [v0, v1, v2, v3, v4] (st) h 0 0) ∧ (¬ x = 0 → eX6_tells ret F n 50 [v0, v1, v2, v3, v4] (st) h 0 0)) := (amWp_dec rfl dX6_tells_47 rfl).trans rfl
theorem wX6_tells_50 {ret F n h} {v0 v1 v2 v3 v4 st} : eX6_tells ret F (n + 1) 50 [v0, v1, v2, v3, v4] (st) h 0 0 = (eX6_tells ret F n 51 [v0, v1, v2, v3, v4] (.int (nI 1) :: st) h 0 0) := (amWp_dec rfl dX6_tells_50 rfl).trans rfl
theorem wX6_tells_51 {ret F n h} {v0 v1 v2 v3 v4 st} : eX6_tells ret F (n + 1) 51 [v0, v1, v2, v3, v4] (st) h 0 0 = (eX6_tells ret F n 55 [v0, v1, v2, v3, v4] (st) h 0 0) := (amWp_dec rfl dX6_tells_51 rfl).trans rfl
theorem wX6_tells_54 {ret F n h} {v0 v1 v2 v3 v4 st} : eX6_tells ret F (n + 1) 54 [v0, v1, v2, v3, v4] (st) h 0 0 = (eX6_tells ret F n 55 [v0, v1, v2, v3, v4] (.int (nI 0) :: st) h 0 0) := (amWp_dec rfl dX6_tells_54 rfl).trans rfl
theorem wX6_tells_55 {ret F n ls st h k z} : eX6_tells ret F (n + 1) 55 ls st h k z = F 55 ls st h k z := amWp_cut rfl
theorem uX6_tells_55 {ret F n h} {v0 v1 v2 v3 v4 st x} : sX6_tells ret F n 55 [v0, v1, v2, v3, v4] (.int x :: st) h 0 0 = (eX6_tells ret F n 56 [v0, v1, amClr v2, .int x, v4] (st) h 0 0) := (amWs_dec dX6_tells_55 rfl).trans (amTrue (Nat.le_of_ble_eq_true rfl))
theorem wX6_tells_56 {ret F n h} {v0 v1 v2 v4 st x} : eX6_tells ret F (n + 1) 56 [v0, v1, v2, .int x, v4] (st) h 0 0 = (eX6_tells ret F n 57 [v0, v1, v2, .int x, v4] (.int x :: st) h 0 0) := (amWp_dec rfl dX6_tells_56 rfl).trans rfl
theorem wX6_tells_57 {ret F n h} {v0 v1 v2 v3 v4 st x} : eX6_tells ret F (n + 1) 57 [v0, v1, v2, v3, v4] (.int x :: st) h 0 0 = ((¬ x = 0 → eX6_tells ret F n 62 [v0, v1, v2, v3, v4] (st) h 0 0) ∧ (x = 0 → eX6_tells ret F n 60 [v0, v1, v2, v3, v4] (st) h 0 0)) := (amWp_dec rfl dX6_tells_57 rfl).trans rfl
theorem wX6_tells_60 {ret F n h} {v0 v1 v2 v3 v4 st} : eX6_tells ret F (n + 1) 60 [v0, v1, v2, v3, v4] (st) h 0 0 = (eX6_tells ret F n 61 [v0, v1, v2, v3, v4] (.int (-1) :: st) h 0 0) := (amWp_dec rfl dX6_tells_60 rfl).trans rfl
theorem wX6_tells_61 {ret F n h} {v0 v1 v2 v3 v4 x} : eX6_tells ret F (n + 1) 61 [v0, v1, v2, v3, v4] ([.int x]) h 0 0 = (ret (some (.int x)) h 0 0) := (amWp_dec rfl dX6_tells_61 rfl).trans (amTrue ⟨_, rfl, rfl⟩)
theorem wX6_tells_62 {ret F n h} {v0 v1 v2 v3 v4 st} : eX6_tells ret F (n + 1) 62 [v0, v1, v2, v3, v4] (st) h 0 0 = (amIsR v0 ∧ eX6_tells ret F n 63 [v0, v1, v2, v3, v4] (v0 :: st) h 0 0) := (amWp_dec rfl dX6_tells_62 rfl).trans rfl
theorem wX6_tells_63 {ret F n h} {v0 v1 v2 v3 v4 a} : eX6_tells ret F (n + 1) 63 [v0, v1, v2, v3, v4] (.ref a :: []) h 0 0 = (h.1 a = (0, 6) ∧ eX6_tells ret F n 66 [v0, v1, v2, v3, v4] (va_rf (h.2.2.2.1 a 0) :: []) h 0 0) := (amWp_dec rfl dX6_tells_63 rfl).trans (amS4 (Nat.le_of_ble_eq_true rfl) (Nat.le_of_ble_eq_true rfl) (Nat.le_of_ble_eq_true rfl) (Nat.le_of_ble_eq_true rfl))
theorem wX6_tells_66 {ret F n h} {v0 v1 v2 v3 v4 st} : eX6_tells ret F (n + 1) 66 [v0, v1, v2, v3, v4] (st) h 0 0 = (eX6_tells ret F n 67 [v0, v1, v2, v3, v4] (.int (nI 2) :: st) h 0 0) := (amWp_dec rfl dX6_tells_66 rfl).trans rfl
theorem wX6_tells_67 {ret F n h} {v0 v2 v3 v4 st x} : eX6_tells ret F (n + 1) 67 [v0, .int x, v2, v3, v4] (st) h 0 0 = (eX6_tells ret F n 68 [v0, .int x, v2, v3, v4] (.int x :: st) h 0 0) := (amWp_dec rfl dX6_tells_67 rfl).trans rfl
theorem wX6_tells_68 {ret F n h} {v0 v1 v2 v3 v4 st y x} : eX6_tells ret F (n + 1) 68 [v0, v1, v2, v3, v4] (.int y :: .int x :: st) h 0 0 = (eX6_tells ret F n 69 [v0, v1, v2, v3, v4] (.int (x + y) :: st) h 0 0) := (amWp_dec rfl dX6_tells_68 rfl).trans rfl
theorem wX6_tells_69 {ret F n h} {v0 v1 v2 v3 v4 st x a} : eX6_tells ret F (n + 1) 69 [v0, v1, v2, v3, v4] (.int x :: .ref a :: st) h 0 0 = ((h.1 a).1 = 1 ∧ vp_in x (h.1 a).2 ∧ eX6_tells ret F n 70 [v0, v1, v2, v3, v4] (.int (h.2.1 a x.toNatClampNeg) :: st) h 0 0) := (amWp_dec rfl dX6_tells_69 rfl).trans rfl
theorem wX6_tells_70 {ret F n h} {v0 v1 v2 v3 v4 st x} : eX6_tells ret F (n + 1) 70 [v0, v1, v2, v3, v4] (.int x :: st) h 0 0 = (eX6_tells ret F n 72 [v0, v1, v2, amClr v3, .int x] (st) h 0 0) := (amWp_dec rfl dX6_tells_70 rfl).trans (amTrue (Nat.le_of_ble_eq_true rfl))
theorem wX6_tells_72 {ret F n h} {v0 v1 v2 v3 st x} : eX6_tells ret F (n + 1) 72 [v0, v1, v2, v3, .int x] (st) h 0 0 = (eX6_tells ret F n 74 [v0, v1, v2, v3, .int x] (.int x :: st) h 0 0) := (amWp_dec rfl dX6_tells_72 rfl).trans rfl
theorem wX6_tells_74 {ret F n h} {v0 v1 v3 v4 st x} : eX6_tells ret F (n + 1) 74 [v0, v1, .int x, v3, v4] (st) h 0 0 = (eX6_tells ret F n 75 [v0, v1, .int x, v3, v4] (.int x :: st) h 0 0) := (amWp_dec rfl dX6_tells_74 rfl).trans rfl
theorem wX6_tells_75 {ret F n h} {v0 v1 v2 v3 v4 st y x} : eX6_tells ret F (n + 1) 75 [v0, v1, v2, v3, v4] (.int y :: .int x :: st) h 0 0 = ((¬ x = y → eX6_tells ret F n 81 [v0, v1, v2, v3, v4] (st) h 0 0) ∧ (x = y → eX6_tells ret F n 78 [v0, v1, v2, v3, v4] (st) h 0 0)) := (amWp_dec rfl dX6_tells_75 rfl).trans rfl
theorem wX6_tells_78 {ret F n h} {v0 v1 v2 v3 v4 st} : eX6_tells ret F (n + 1) 78 [v0, v1, v2, v3, v4] (st) h 0 0 = (eX6_tells ret F n 80 [v0, v1, v2, v3, v4] (.int (-2) :: st) h 0 0) := (amWp_dec rfl dX6_tells_78 rfl).trans rfl
theorem wX6_tells_80 {ret F n h} {v0 v1 v2 v3 v4 x} : eX6_tells ret F (n + 1) 80 [v0, v1, v2, v3, v4] ([.int x]) h 0 0 = (ret (some (.int x)) h 0 0) := (amWp_dec rfl dX6_tells_80 rfl).trans (amTrue ⟨_, rfl, rfl⟩)
theorem wX6_tells_81 {ret F n h} {v0 v1 v2 v3 v4 st} : eX6_tells ret F (n + 1) 81 [v0, v1, v2, v3, v4] (st) h 0 0 = (amIsR v0 ∧ eX6_tells ret F n 82 [v0, v1, v2, v3, v4] (v0 :: st) h 0 0) := (amWp_dec rfl dX6_tells_81 rfl).trans rfl
theorem wX6_tells_82 {ret F n h} {v0 v1 v2 v3 v4 a} : eX6_tells ret F (n + 1) 82 [v0, v1, v2, v3, v4] (.ref a :: []) h 0 0 = (h.1 a = (0, 6) ∧ eX6_tells ret F n 85 [v0, v1, v2, v3, v4] (va_rf (h.2.2.2.1 a 0) :: []) h 0 0) := (amWp_dec rfl dX6_tells_82 rfl).trans (amS4 (Nat.le_of_ble_eq_true rfl) (Nat.le_of_ble_eq_true rfl) (Nat.le_of_ble_eq_true rfl) (Nat.le_of_ble_eq_true rfl))
theorem wX6_tells_85 {ret F n h} {v0 v1 v2 v3 v4 st} : eX6_tells ret F (n + 1) 85 [v0, v1, v2, v3, v4] (st) h 0 0 = (eX6_tells ret F n 86 [v0, v1, v2, v3, v4] (.int (nI 2) :: st) h 0 0) := (amWp_dec rfl dX6_tells_85 rfl).trans rfl
theorem wX6_tells_86 {ret F n h} {v0 v2 v3 v4 st x} : eX6_tells ret F (n + 1) 86 [v0, .int x, v2, v3, v4] (st) h 0 0 = (eX6_tells ret F n 87 [v0, .int x, v2, v3, v4] (.int x :: st) h 0 0) := (amWp_dec rfl dX6_tells_86 rfl).trans rfl
theorem wX6_tells_87 {ret F n h} {v0 v1 v2 v3 v4 st y x} : eX6_tells ret F (n + 1) 87 [v0, v1, v2, v3, v4] (.int y :: .int x :: st) h 0 0 = (eX6_tells ret F n 88 [v0, v1, v2, v3, v4] (.int (x + y) :: st) h 0 0) := (amWp_dec rfl dX6_tells_87 rfl).trans rfl
theorem wX6_tells_88 {ret F n h} {v0 v1 v3 v4 st x} : eX6_tells ret F (n + 1) 88 [v0, v1, .int x, v3, v4] (st) h 0 0 = (eX6_tells ret F n 89 [v0, v1, .int x, v3, v4] (.int x :: st) h 0 0) := (amWp_dec rfl dX6_tells_88 rfl).trans rfl
theorem wX6_tells_89 {ret F n h} {v0 v1 v2 v3 v4 st y x a} : eX6_tells ret F (n + 1) 89 [v0, v1, v2, v3, v4] (.int y :: .int x :: .ref a :: st) h 0 0 = ((h.1 a).1 = 1 ∧ vp_in x (h.1 a).2 ∧ amN0 ≤ a ∧ eX6_tells ret F n 90 [v0, v1, v2, v3, v4] (st) (amSI h (amU h.2.1 a x.toNatClampNeg y)) 0 0) := (amWp_dec rfl dX6_tells_89 rfl).trans rfl
theorem wX6_tells_90 {ret F n h} {v0 v1 v2 v3 st x} : eX6_tells ret F (n + 1) 90 [v0, v1, v2, v3, .int x] (st) h 0 0 = (eX6_tells ret F n 92 [v0, v1, v2, v3, .int x] (.int x :: st) h 0 0) := (amWp_dec rfl dX6_tells_90 rfl).trans rfl
theorem wX6_tells_92 {ret F n h} {v0 v1 v2 v3 v4 x} : eX6_tells ret F (n + 1) 92 [v0, v1, v2, v3, v4] ([.int x]) h 0 0 = (ret (some (.int x)) h 0 0) := (amWp_dec rfl dX6_tells_92 rfl).trans (amTrue ⟨_, rfl, rfl⟩)
theorem evX6_tells (l : Launch) (G : amG) : ∀ pc S i sz, amLk rX6_tells pc = some S → decode cX6_tells pc = .ok (i, sz) → amSiteP pc G l yX6_tells.cls yX6_tells.name yX6_tells.desc (amRm 2 0 0) i sz S.1 S.2.1 S.2.2.1 S.2.2.2 := amLk_ok (by
  refine List.forall_mem_cons.mpr ⟨⟨_, _, dX6_tells_7, amSite.P (amSiteLdc2 q1576)⟩, ?_⟩
  refine List.forall_mem_cons.mpr ⟨⟨_, _, dX6_tells_10, amSite.P (amSiteS (metX6_in l G) rfl (by decide) (by decide) (lw_S q1381 q1382 q94 q1383) ⟨by decide +kernel, by decide +kernel, by decide +kernel⟩)⟩, ?_⟩
  refine List.forall_mem_cons.mpr ⟨⟨_, _, dX6_tells_24, amSite.P (amSiteLdc2 q1577)⟩, ?_⟩
  refine List.forall_mem_cons.mpr ⟨⟨_, _, dX6_tells_27, amSite.P (amSiteS (metX6_in l G) rfl (by decide) (by decide) (lw_S q1381 q1382 q94 q1383) ⟨by decide +kernel, by decide +kernel, by decide +kernel⟩)⟩, ?_⟩
  refine List.forall_mem_cons.mpr ⟨⟨_, _, dX6_tells_41, amSite.P (amSiteLdc2 q1578)⟩, ?_⟩
  refine List.forall_mem_cons.mpr ⟨⟨_, _, dX6_tells_44, amSite.P (amSiteS (metX6_in l G) rfl (by decide) (by decide) (lw_S q1381 q1382 q94 q1383) ⟨by decide +kernel, by decide +kernel, by decide +kernel⟩)⟩, ?_⟩
  refine List.forall_mem_cons.mpr ⟨⟨_, _, dX6_tells_63, amSite.P (amSiteGet ⟨_, rfl, by decide, Or.inl q1295⟩)⟩, ?_⟩
  refine List.forall_mem_cons.mpr ⟨⟨_, _, dX6_tells_82, amSite.P (amSiteGet ⟨_, rfl, by decide, Or.inl q1295⟩)⟩, ?_⟩
  exact fun _ h => absurd h List.not_mem_nil)
theorem goX6_tells {ret F} (hF : amCld cX6_tells kX6_tells (amLk rX6_tells) (some .int) 0 0 ret F) (n : Nat) {pc ls st h k z} (q : sX6_tells ret F n pc ls st h k z) : F pc ls st h k z := hF.1 n pc ls st h k z q
theorem metX6_tells (l : Launch) (G : amG) : amMet l G yX6_tells (ws_ yX6_tells cX6_tells 5 (some .int)) 2 0 0 tX6_tells := by
  refine amMet_of (cut := kX6_tells) (by decide +kernel) (evX6_tells l G) ?_
  intro as h K hT
  match as, hT with
  | [.ref a, .int w, .int v], ⟨S, e, hA, hK⟩ =>
  refine ⟨Nat.le_of_ble_eq_true rfl, fun F hF => ?_⟩
  show F 0 [.ref a, .int w, .int v, .retAddr 0, .retAddr 0] [] h 0 0
  obtain ⟨a, rfl⟩ : ∃ i : Nat, i = a := ⟨_, rfl⟩
  subst e
  have hR := hA.1
  have hS := hA.2.1
  have n7 := hS.n7
  have fin : ∀ c, c = amC01 (mayP w v) → F 55 [.ref 124, .int w, .int v, .retAddr 0, .retAddr 0] [.int c] h 0 0 := by
    intro c ec
    subst ec
    by_cases q : mayP w v
    · obtain ⟨a, b, rfl, rfl, hab⟩ := mayP_N q
      have a3 : a < 3 := by rcases hab with z | z | z <;> omega
      have b20 : b ≤ 20 := by rcases hab with z | z | z <;> omega
      have fa := figN_at hS a3
      have f20 := figN_lt hA.2.2 a
      rw [tllR, if_neg (fun z => z q), amCl_nI (by omega), amCl_nI (by omega)] at hK
      by_cases z : figN S a = b
      · rw [if_pos (by rw [z])] at hK
        rw [z] at fa
        have key := hK h.2.1 hS (maFr.rf _)
        refine goX6_tells hF 60 ?_
        simp (disch := omega) only [wX6_tells_0, uX6_tells_0, wX6_tells_1, wX6_tells_4, wX6_tells_5, wX6_tells_6, wX6_tells_7, wX6_tells_10, wX6_tells_13, wX6_tells_16, wX6_tells_17, wX6_tells_18, wX6_tells_21, wX6_tells_22, wX6_tells_23, wX6_tells_24, wX6_tells_27, wX6_tells_30, wX6_tells_33, wX6_tells_34, wX6_tells_35, wX6_tells_38, wX6_tells_39, wX6_tells_40, wX6_tells_41, wX6_tells_44, wX6_tells_47, wX6_tells_50, wX6_tells_51, wX6_tells_54, wX6_tells_55, uX6_tells_55, wX6_tells_56, wX6_tells_57, wX6_tells_60, wX6_tells_61, wX6_tells_62, wX6_tells_63, wX6_tells_66, wX6_tells_67, wX6_tells_68, wX6_tells_69, wX6_tells_70, wX6_tells_72, wX6_tells_74, wX6_tells_75, wX6_tells_78, wX6_tells_80, wX6_tells_81, wX6_tells_82, wX6_tells_85, wX6_tells_86, wX6_tells_87, wX6_tells_88, wX6_tells_89, wX6_tells_90, wX6_tells_92, amSI_1, amSI_2, amSI_3, amSI_s, amU_at, amIsR_ref, amIsR_null, amIsR_rf, amRf_some, amRf_none, amClr_int, amClr_ref, amClr_null, amClr_long, amClr_ra, amClr_rf, amFit_int, amFit_oref, amFit_aref, amFit_onull, amFit_anull, amOptSome, amOptNone, List.cons_append, List.nil_append, true_and, and_true, true_implies, not_true_eq_false, not_false_eq_true, false_implies, and_self, Nat.add_zero, Nat.zero_add, ne_eq, Prod.mk.injEq, amC01_0, amC01_1, amC01_nb, amNb0, amNb1, amTcpI_d, Nat.reduceLeDiff, Nat.reduceAdd, Nat.reduceSub, Nat.reduceEqDiff, Nat.le_refl, amN0le, hR.s, hR.r, amVI, amCl_nI, amAdd, amEqI, fa, q]
        exact amRet.of (by decide) (by decide) key
      · rw [if_neg (by rw [amEqI (by omega) (by omega)]; exact z)] at hK
        have z' : (figN S a = b) = False := eq_false z
        refine goX6_tells hF 60 ?_
        simp (disch := omega) only [wX6_tells_0, uX6_tells_0, wX6_tells_1, wX6_tells_4, wX6_tells_5, wX6_tells_6, wX6_tells_7, wX6_tells_10, wX6_tells_13, wX6_tells_16, wX6_tells_17, wX6_tells_18, wX6_tells_21, wX6_tells_22, wX6_tells_23, wX6_tells_24, wX6_tells_27, wX6_tells_30, wX6_tells_33, wX6_tells_34, wX6_tells_35, wX6_tells_38, wX6_tells_39, wX6_tells_40, wX6_tells_41, wX6_tells_44, wX6_tells_47, wX6_tells_50, wX6_tells_51, wX6_tells_54, wX6_tells_55, uX6_tells_55, wX6_tells_56, wX6_tells_57, wX6_tells_60, wX6_tells_61, wX6_tells_62, wX6_tells_63, wX6_tells_66, wX6_tells_67, wX6_tells_68, wX6_tells_69, wX6_tells_70, wX6_tells_72, wX6_tells_74, wX6_tells_75, wX6_tells_78, wX6_tells_80, wX6_tells_81, wX6_tells_82, wX6_tells_85, wX6_tells_86, wX6_tells_87, wX6_tells_88, wX6_tells_89, wX6_tells_90, wX6_tells_92, amSI_1, amSI_2, amSI_3, amSI_s, amU_at, amIsR_ref, amIsR_null, amIsR_rf, amRf_some, amRf_none, amClr_int, amClr_ref, amClr_null, amClr_long, amClr_ra, amClr_rf, amFit_int, amFit_oref, amFit_aref, amFit_onull, amFit_anull, amOptSome, amOptNone, List.cons_append, List.nil_append, true_and, and_true, true_implies, not_true_eq_false, not_false_eq_true, false_implies, and_self, Nat.add_zero, Nat.zero_add, ne_eq, Prod.mk.injEq, amC01_0, amC01_1, amC01_nb, amNb0, amNb1, amTcpI_d, Nat.reduceLeDiff, Nat.reduceAdd, Nat.reduceSub, Nat.reduceEqDiff, Nat.le_refl, amN0le, hR.s, hR.r, amVI, amCl_nI, amAdd, amEqI, fa, q, z']
        refine amRet.of (by decide) (by decide) (hK _ (RwIs.mk hS.n7 hS.ls hS.la ?_ ?_ ?_ ?_ ?_ ?_ (fun k hk => ?_) (fun k hk => ?_) (fun k hk => ?_)) (maFr.r (fun i hi => ?_)))
        · simp (disch := omega) only [amU_at, amU_ne, amU_nj, amU_neR, up_ne, up_at, amSI_2]
          exact hS.n
        · simp (disch := omega) only [amU_at, amU_ne, amU_nj, amU_neR, up_ne, up_at, amSI_2]
          exact hS.prior
        · show _ = nI (if a = 0 then b else S.span)
          by_cases y : a = 0
          · subst y
            simp (disch := omega) only [amU_at, amU_ne, amU_nj, amU_neR, up_ne, up_at, amSI_2]
            rfl
          · rw [if_neg y]
            simp (disch := omega) only [amU_at, amU_ne, amU_nj, amU_neR, up_ne, up_at, amSI_2]
            exact hS.span
        · show _ = nI (if a = 1 then b else S.bound)
          by_cases y : a = 1
          · subst y
            simp (disch := omega) only [amU_at, amU_ne, amU_nj, amU_neR, up_ne, up_at, amSI_2]
            rfl
          · rw [if_neg y]
            simp (disch := omega) only [amU_at, amU_ne, amU_nj, amU_neR, up_ne, up_at, amSI_2]
            exact hS.bound
        · show _ = nI (if a = 2 then b else S.rule)
          by_cases y : a = 2
          · subst y
            simp (disch := omega) only [amU_at, amU_ne, amU_nj, amU_neR, up_ne, up_at, amSI_2]
            rfl
          · rw [if_neg y]
            simp (disch := omega) only [amU_at, amU_ne, amU_nj, amU_neR, up_ne, up_at, amSI_2]
            exact hS.rule
        · simp (disch := omega) only [amU_at, amU_ne, amU_nj, amU_neR, up_ne, up_at, amSI_2]
          exact hS.draw
        · simp (disch := omega) only [amU_at, amU_ne, amU_nj, amU_neR, up_ne, up_at, amSI_2]
          exact hS.o0 k hk
        · simp (disch := omega) only [amU_at, amU_ne, amU_nj, amU_neR, up_ne, up_at, amSI_2]
          exact hS.s0 k hk
        · simp (disch := omega) only [amU_at, amU_ne, amU_nj, amU_neR, up_ne, up_at, amSI_2]
          exact hS.a0 k hk
        · simp (disch := omega) only [amU_at, amU_ne, amU_nj, amU_neR, up_ne, up_at, amSI_2]
    · rw [tllR, if_pos q] at hK
      have key := hK h.2.1 hS (maFr.rf _)
      refine goX6_tells hF 60 ?_
      simp (disch := omega) only [wX6_tells_0, uX6_tells_0, wX6_tells_1, wX6_tells_4, wX6_tells_5, wX6_tells_6, wX6_tells_7, wX6_tells_10, wX6_tells_13, wX6_tells_16, wX6_tells_17, wX6_tells_18, wX6_tells_21, wX6_tells_22, wX6_tells_23, wX6_tells_24, wX6_tells_27, wX6_tells_30, wX6_tells_33, wX6_tells_34, wX6_tells_35, wX6_tells_38, wX6_tells_39, wX6_tells_40, wX6_tells_41, wX6_tells_44, wX6_tells_47, wX6_tells_50, wX6_tells_51, wX6_tells_54, wX6_tells_55, uX6_tells_55, wX6_tells_56, wX6_tells_57, wX6_tells_60, wX6_tells_61, wX6_tells_62, wX6_tells_63, wX6_tells_66, wX6_tells_67, wX6_tells_68, wX6_tells_69, wX6_tells_70, wX6_tells_72, wX6_tells_74, wX6_tells_75, wX6_tells_78, wX6_tells_80, wX6_tells_81, wX6_tells_82, wX6_tells_85, wX6_tells_86, wX6_tells_87, wX6_tells_88, wX6_tells_89, wX6_tells_90, wX6_tells_92, amSI_1, amSI_2, amSI_3, amSI_s, amU_at, amIsR_ref, amIsR_null, amIsR_rf, amRf_some, amRf_none, amClr_int, amClr_ref, amClr_null, amClr_long, amClr_ra, amClr_rf, amFit_int, amFit_oref, amFit_aref, amFit_onull, amFit_anull, amOptSome, amOptNone, List.cons_append, List.nil_append, true_and, and_true, true_implies, not_true_eq_false, not_false_eq_true, false_implies, and_self, Nat.add_zero, Nat.zero_add, ne_eq, Prod.mk.injEq, amC01_0, amC01_1, amC01_nb, amNb0, amNb1, amTcpI_d, Nat.reduceLeDiff, Nat.reduceAdd, Nat.reduceSub, Nat.reduceEqDiff, Nat.le_refl, amN0le, hR.s, hR.r, q]
      exact amRet.of (by decide) (by decide) key
  have z0 : (w = 0) = (w = nI 0) := rfl
  refine goX6_tells hF 40 ?_
  simp (disch := omega) only [wX6_tells_0, uX6_tells_0, wX6_tells_1, wX6_tells_4, wX6_tells_5, wX6_tells_6, wX6_tells_7, wX6_tells_10, wX6_tells_13, wX6_tells_16, wX6_tells_17, wX6_tells_18, wX6_tells_21, wX6_tells_22, wX6_tells_23, wX6_tells_24, wX6_tells_27, wX6_tells_30, wX6_tells_33, wX6_tells_34, wX6_tells_35, wX6_tells_38, wX6_tells_39, wX6_tells_40, wX6_tells_41, wX6_tells_44, wX6_tells_47, wX6_tells_50, wX6_tells_51, wX6_tells_54, wX6_tells_55, uX6_tells_55, wX6_tells_56, wX6_tells_57, wX6_tells_60, wX6_tells_61, wX6_tells_62, wX6_tells_63, wX6_tells_66, wX6_tells_67, wX6_tells_68, wX6_tells_69, wX6_tells_70, wX6_tells_72, wX6_tells_74, wX6_tells_75, wX6_tells_78, wX6_tells_80, wX6_tells_81, wX6_tells_82, wX6_tells_85, wX6_tells_86, wX6_tells_87, wX6_tells_88, wX6_tells_89, wX6_tells_90, wX6_tells_92, amSI_1, amSI_2, amSI_3, amSI_s, amU_at, amIsR_ref, amIsR_null, amIsR_rf, amRf_some, amRf_none, amClr_int, amClr_ref, amClr_null, amClr_long, amClr_ra, amClr_rf, amFit_int, amFit_oref, amFit_aref, amFit_onull, amFit_anull, amOptSome, amOptNone, List.cons_append, List.nil_append, true_and, and_true, true_implies, not_true_eq_false, not_false_eq_true, false_implies, and_self, Nat.add_zero, Nat.zero_add, ne_eq, Prod.mk.injEq, amC01_0, amC01_1, amC01_nb, amNb0, amNb1, amTcpI_d, Nat.reduceLeDiff, Nat.reduceAdd, Nat.reduceSub, Nat.reduceEqDiff, Nat.le_refl, amN0le, tX6_in_d, z0]
  refine ⟨fun y0 => ⟨fun y1 => ⟨fun y2 => fin _ (amC01_f ?_).symm, fun y2 => ⟨fun y3 => fin _ (amC01_f ?_).symm, fun y3 => fin _ (amC01_t ?_).symm⟩⟩, fun y1 => fin _ (amC01_i ?_)⟩, fun y0 => fin _ (amC01_i ?_)⟩
  · rintro (z | z | z)
    · exact y0 z.1
    · exact y1 z.1
    · exact y2 z.1
  · rintro (z | z | z)
    · exact y0 z.1
    · exact y1 z.1
    · exact y3 z.2
  · exact Or.inr (Or.inr ⟨y2, Classical.not_not.mp y3⟩)
  · subst y1
    constructor
    · intro z; exact Or.inr (Or.inl ⟨rfl, z⟩)
    · rintro (z | z | z)
      · exact absurd z.1 (by decide)
      · exact z.2
      · exact absurd z.1 (by decide)
  · subst y0
    constructor
    · intro z; exact Or.inl ⟨rfl, z⟩
    · rintro (z | z | z)
      · exact z.2
      · exact absurd z.1 (by decide)
      · exact absurd z.1 (by decide)
theorem tX6_tells_d {a : Nat} {w v : Int32} {h : amH} {K : Option Value → amH → Prop} : tX6_tells [.ref a, .int w, .int v] h K = ∃ S : HS, a = (124 : Nat) ∧ mdSys h S ∧ ∀ m', RwIs m' 125 0 (tllR S w v).1 → maFr h.2.1 m' → K (some (.int (tllR S w v).2)) (amSI h m') := rfl
theorem outM : ∀ k, k < 7 → ∀ x, x < 128 → ((nI x &&& ((nI 1 <<< (nI k &&& 31)) - nI 1)) ||| ((nI x >>> (nI (k + 1) &&& 31)) <<< (nI k &&& 31))) = nI (outN k x) := by decide +kernel
def tX6_without : amT := fun as h K => match as with
  | [.int x0, .int k0] => ∃ x k : Nat, x0 = nI x ∧ k0 = nI k ∧ x < 128 ∧ k < 7 ∧ K (some (.int (nI (outN k x)))) h
  | _ => False
/-! ReadingStagesModel.without(II)I -/
def kX6_without : Nat → Bool := fun pc => false
def rX6_without : List (Nat × amS) := []
def eX6_without (ret : Option Value → amH → Nat → Nat → Prop) (F : amX) : Nat → amX := amWp cX6_without kX6_without (amLk rX6_without) (some .int) 0 0 ret F
def sX6_without (ret : Option Value → amH → Nat → Nat → Prop) (F : amX) : Nat → amX := amWs cX6_without kX6_without (amLk rX6_without) (some .int) 0 0 ret F
theorem wX6_without_0 {ret F n h} {v1 v2 st x} : eX6_without ret F (n + 1) 0 [.int x, v1, v2] (st) h 0 0 = (eX6_without ret F n 1 [.int x, v1, v2] (.int x :: st) h 0 0) := (amWp_dec rfl dX6_without_0 rfl).trans rfl
theorem uX6_without_0 {ret F n h} {v1 v2 st x} : sX6_without ret F n 0 [.int x, v1, v2] (st) h 0 0 = (eX6_without ret F n 1 [.int x, v1, v2] (.int x :: st) h 0 0) := (amWs_dec dX6_without_0 rfl).trans rfl
theorem wX6_without_1 {ret F n h} {v0 v1 v2 st} : eX6_without ret F (n + 1) 1 [v0, v1, v2] (st) h 0 0 = (eX6_without ret F n 2 [v0, v1, v2] (.int (nI 1) :: st) h 0 0) := (amWp_dec rfl dX6_without_1 rfl).trans rfl
theorem wX6_without_2 {ret F n h} {v0 v2 st x} : eX6_without ret F (n + 1) 2 [v0, .int x, v2] (st) h 0 0 = (eX6_without ret F n 3 [v0, .int x, v2] (.int x :: st) h 0 0) := (amWp_dec rfl dX6_without_2 rfl).trans rfl
theorem wX6_without_3 {ret F n h} {v0 v1 v2 st y x} : eX6_without ret F (n + 1) 3 [v0, v1, v2] (.int y :: .int x :: st) h 0 0 = (eX6_without ret F n 4 [v0, v1, v2] (.int (x <<< (y &&& 31)) :: st) h 0 0) := (amWp_dec rfl dX6_without_3 rfl).trans rfl
theorem wX6_without_4 {ret F n h} {v0 v1 v2 st} : eX6_without ret F (n + 1) 4 [v0, v1, v2] (st) h 0 0 = (eX6_without ret F n 5 [v0, v1, v2] (.int (nI 1) :: st) h 0 0) := (amWp_dec rfl dX6_without_4 rfl).trans rfl
theorem wX6_without_5 {ret F n h} {v0 v1 v2 st y x} : eX6_without ret F (n + 1) 5 [v0, v1, v2] (.int y :: .int x :: st) h 0 0 = (eX6_without ret F n 6 [v0, v1, v2] (.int (x - y) :: st) h 0 0) := (amWp_dec rfl dX6_without_5 rfl).trans rfl
theorem wX6_without_6 {ret F n h} {v0 v1 v2 st y x} : eX6_without ret F (n + 1) 6 [v0, v1, v2] (.int y :: .int x :: st) h 0 0 = (eX6_without ret F n 7 [v0, v1, v2] (.int (x &&& y) :: st) h 0 0) := (amWp_dec rfl dX6_without_6 rfl).trans rfl
theorem wX6_without_7 {ret F n h} {v0 v1 v2 st x} : eX6_without ret F (n + 1) 7 [v0, v1, v2] (.int x :: st) h 0 0 = (eX6_without ret F n 8 [v0, amClr v1, .int x] (st) h 0 0) := (amWp_dec rfl dX6_without_7 rfl).trans (amTrue (Nat.le_of_ble_eq_true rfl))
theorem wX6_without_8 {ret F n h} {v0 v1 st x} : eX6_without ret F (n + 1) 8 [v0, v1, .int x] (st) h 0 0 = (eX6_without ret F n 9 [v0, v1, .int x] (.int x :: st) h 0 0) := (amWp_dec rfl dX6_without_8 rfl).trans rfl
theorem wX6_without_9 {ret F n h} {v1 v2 st x} : eX6_without ret F (n + 1) 9 [.int x, v1, v2] (st) h 0 0 = (eX6_without ret F n 10 [.int x, v1, v2] (.int x :: st) h 0 0) := (amWp_dec rfl dX6_without_9 rfl).trans rfl
theorem wX6_without_10 {ret F n h} {v0 v2 st x} : eX6_without ret F (n + 1) 10 [v0, .int x, v2] (st) h 0 0 = (eX6_without ret F n 11 [v0, .int x, v2] (.int x :: st) h 0 0) := (amWp_dec rfl dX6_without_10 rfl).trans rfl
theorem wX6_without_11 {ret F n h} {v0 v1 v2 st} : eX6_without ret F (n + 1) 11 [v0, v1, v2] (st) h 0 0 = (eX6_without ret F n 12 [v0, v1, v2] (.int (nI 1) :: st) h 0 0) := (amWp_dec rfl dX6_without_11 rfl).trans rfl
theorem wX6_without_12 {ret F n h} {v0 v1 v2 st y x} : eX6_without ret F (n + 1) 12 [v0, v1, v2] (.int y :: .int x :: st) h 0 0 = (eX6_without ret F n 13 [v0, v1, v2] (.int (x + y) :: st) h 0 0) := (amWp_dec rfl dX6_without_12 rfl).trans rfl
theorem wX6_without_13 {ret F n h} {v0 v1 v2 st y x} : eX6_without ret F (n + 1) 13 [v0, v1, v2] (.int y :: .int x :: st) h 0 0 = (eX6_without ret F n 14 [v0, v1, v2] (.int (x >>> (y &&& 31)) :: st) h 0 0) := (amWp_dec rfl dX6_without_13 rfl).trans rfl
theorem wX6_without_14 {ret F n h} {v0 v2 st x} : eX6_without ret F (n + 1) 14 [v0, .int x, v2] (st) h 0 0 = (eX6_without ret F n 15 [v0, .int x, v2] (.int x :: st) h 0 0) := (amWp_dec rfl dX6_without_14 rfl).trans rfl
theorem wX6_without_15 {ret F n h} {v0 v1 v2 st y x} : eX6_without ret F (n + 1) 15 [v0, v1, v2] (.int y :: .int x :: st) h 0 0 = (eX6_without ret F n 16 [v0, v1, v2] (.int (x <<< (y &&& 31)) :: st) h 0 0) := (amWp_dec rfl dX6_without_15 rfl).trans rfl
theorem wX6_without_16 {ret F n h} {v0 v1 v2 st y x} : eX6_without ret F (n + 1) 16 [v0, v1, v2] (.int y :: .int x :: st) h 0 0 = (eX6_without ret F n 17 [v0, v1, v2] (.int (x ||| y) :: st) h 0 0) := (amWp_dec rfl dX6_without_16 rfl).trans rfl
theorem wX6_without_17 {ret F n h} {v0 v1 v2 x} : eX6_without ret F (n + 1) 17 [v0, v1, v2] ([.int x]) h 0 0 = (ret (some (.int x)) h 0 0) := (amWp_dec rfl dX6_without_17 rfl).trans (amTrue ⟨_, rfl, rfl⟩)
theorem evX6_without (l : Launch) (G : amG) : ∀ pc S i sz, amLk rX6_without pc = some S → decode cX6_without pc = .ok (i, sz) → amSiteP pc G l yX6_without.cls yX6_without.name yX6_without.desc (amRm 1 0 0) i sz S.1 S.2.1 S.2.2.1 S.2.2.2 := amLk_ok (by
  exact fun _ h => absurd h List.not_mem_nil)
theorem goX6_without {ret F} (hF : amCld cX6_without kX6_without (amLk rX6_without) (some .int) 0 0 ret F) (n : Nat) {pc ls st h k z} (q : sX6_without ret F n pc ls st h k z) : F pc ls st h k z := hF.1 n pc ls st h k z q
theorem metX6_without (l : Launch) (G : amG) : amMet l G yX6_without (ws_ yX6_without cX6_without 3 (some .int)) 1 0 0 tX6_without := by
  refine amMet_of (cut := kX6_without) (by decide +kernel) (evX6_without l G) ?_
  intro as h K hT
  match as, hT with
  | [.int x0, .int k0], ⟨x, k, e1, e2, hx, hk, hK⟩ =>
  refine ⟨Nat.le_of_ble_eq_true rfl, fun F hF => ?_⟩
  show F 0 [.int x0, .int k0, .retAddr 0] [] h 0 0
  subst e1; subst e2
  have e := outM k hk x hx
  refine goX6_without hF 40 ?_
  simp (disch := omega) only [wX6_without_0, uX6_without_0, wX6_without_1, wX6_without_2, wX6_without_3, wX6_without_4, wX6_without_5, wX6_without_6, wX6_without_7, wX6_without_8, wX6_without_9, wX6_without_10, wX6_without_11, wX6_without_12, wX6_without_13, wX6_without_14, wX6_without_15, wX6_without_16, wX6_without_17, amSI_1, amSI_2, amSI_3, amSI_s, amU_at, amIsR_ref, amIsR_null, amIsR_rf, amRf_some, amRf_none, amClr_int, amClr_ref, amClr_null, amClr_long, amClr_ra, amClr_rf, amFit_int, amFit_oref, amFit_aref, amFit_onull, amFit_anull, amOptSome, amOptNone, List.cons_append, List.nil_append, true_and, and_true, true_implies, not_true_eq_false, not_false_eq_true, false_implies, and_self, Nat.add_zero, Nat.zero_add, ne_eq, Prod.mk.injEq, amC01_0, amC01_1, amC01_nb, amNb0, amNb1, amTcpI_d, Nat.reduceLeDiff, Nat.reduceAdd, Nat.reduceSub, Nat.reduceEqDiff, Nat.le_refl, amN0le, amAdd, e]
  exact amRet.of (by decide) (by decide) hK
theorem tX6_without_d {x0 k0 : Int32} {h : amH} {K : Option Value → amH → Prop} : tX6_without [.int x0, .int k0] h K = ∃ x k : Nat, x0 = nI x ∧ k0 = nI k ∧ x < 128 ∧ k < 7 ∧ K (some (.int (nI (outN k x)))) h := rfl
/-- the row's three lists, as functions -/
def lsI (m0 m : Nat → Nat → Int32) (n : Nat) (f g a : Nat → Nat) : Prop := (∀ q, q < n → m 125 (6 + q) = nI (f q)) ∧ (∀ q, q < n → m 125 (13 + q) = nI (g q)) ∧ (∀ q, q < n → m 125 (20 + q) = nI (a q)) ∧ (∀ q, 1 ≤ q → q < 6 → m 125 q = m0 125 q) ∧ ∀ i : Nat, i ≠ 125 → m i = m0 i
theorem lsI.wd {m0 m n f g a} (h : lsI m0 m n f g a) {f' g' a' : Nat → Nat} {n' : Nat} (hn : n' ≤ n) (e1 : ∀ q, q < n' → f' q = f q) (e2 : ∀ q, q < n' → g' q = g q) (e3 : ∀ q, q < n' → a' q = a q) : lsI m0 m n' f' g' a' := ⟨fun q hq => by rw [e1 q hq]; exact h.1 q (by omega), fun q hq => by rw [e2 q hq]; exact h.2.1 q (by omega), fun q hq => by rw [e3 q hq]; exact h.2.2.1 q (by omega), h.2.2.2⟩
theorem lsI.o {m0 m n f g a} (h : lsI m0 m n f g a) (hn : n ≤ 7) {p : Nat} (hp : p < 7) (v : Nat) : lsI m0 (amU m 125 (6 + p) (nI v)) n (fun q => if q = p then v else f q) g a := by
  obtain ⟨h1, h2, h3, h4, h5⟩ := h
  refine ⟨fun q hq => ?_, fun q hq => ?_, fun q hq => ?_, fun q q1 q2 => ?_, fun i hi => ?_⟩
  · dsimp only
    by_cases e : q = p
    · subst e
      rw [if_pos rfl]
      simp (disch := omega) only [amU_at, amU_ne, amU_nj, amU_neR, up_ne, up_at, amSI_2]
    · rw [if_neg e]
      simp (disch := omega) only [amU_at, amU_ne, amU_nj, amU_neR, up_ne, up_at, amSI_2]
      exact h1 q hq
  · simp (disch := omega) only [amU_at, amU_ne, amU_nj, amU_neR, up_ne, up_at, amSI_2]
    exact h2 q hq
  · simp (disch := omega) only [amU_at, amU_ne, amU_nj, amU_neR, up_ne, up_at, amSI_2]
    exact h3 q hq
  · simp (disch := omega) only [amU_at, amU_ne, amU_nj, amU_neR, up_ne, up_at, amSI_2]
    exact h4 q q1 q2
  · simp (disch := omega) only [amU_at, amU_ne, amU_nj, amU_neR, up_ne, up_at, amSI_2]
    exact h5 i hi
theorem lsI.s {m0 m n f g a} (h : lsI m0 m n f g a) (hn : n ≤ 7) {p : Nat} (hp : p < 7) (v : Nat) : lsI m0 (amU m 125 (13 + p) (nI v)) n f (fun q => if q = p then v else g q) a := by
  obtain ⟨h1, h2, h3, h4, h5⟩ := h
  refine ⟨fun q hq => ?_, fun q hq => ?_, fun q hq => ?_, fun q q1 q2 => ?_, fun i hi => ?_⟩
  · simp (disch := omega) only [amU_at, amU_ne, amU_nj, amU_neR, up_ne, up_at, amSI_2]
    exact h1 q hq
  · dsimp only
    by_cases e : q = p
    · subst e
      rw [if_pos rfl]
      simp (disch := omega) only [amU_at, amU_ne, amU_nj, amU_neR, up_ne, up_at, amSI_2]
    · rw [if_neg e]
      simp (disch := omega) only [amU_at, amU_ne, amU_nj, amU_neR, up_ne, up_at, amSI_2]
      exact h2 q hq
  · simp (disch := omega) only [amU_at, amU_ne, amU_nj, amU_neR, up_ne, up_at, amSI_2]
    exact h3 q hq
  · simp (disch := omega) only [amU_at, amU_ne, amU_nj, amU_neR, up_ne, up_at, amSI_2]
    exact h4 q q1 q2
  · simp (disch := omega) only [amU_at, amU_ne, amU_nj, amU_neR, up_ne, up_at, amSI_2]
    exact h5 i hi
theorem lsI.a {m0 m n f g a} (h : lsI m0 m n f g a) (hn : n ≤ 7) {p : Nat} (hp : p < 7) (v : Nat) : lsI m0 (amU m 125 (20 + p) (nI v)) n f g (fun q => if q = p then v else a q) := by
  obtain ⟨h1, h2, h3, h4, h5⟩ := h
  refine ⟨fun q hq => ?_, fun q hq => ?_, fun q hq => ?_, fun q q1 q2 => ?_, fun i hi => ?_⟩
  · simp (disch := omega) only [amU_at, amU_ne, amU_nj, amU_neR, up_ne, up_at, amSI_2]
    exact h1 q hq
  · simp (disch := omega) only [amU_at, amU_ne, amU_nj, amU_neR, up_ne, up_at, amSI_2]
    exact h2 q hq
  · dsimp only
    by_cases e : q = p
    · subst e
      rw [if_pos rfl]
      simp (disch := omega) only [amU_at, amU_ne, amU_nj, amU_neR, up_ne, up_at, amSI_2]
    · rw [if_neg e]
      simp (disch := omega) only [amU_at, amU_ne, amU_nj, amU_neR, up_ne, up_at, amSI_2]
      exact h3 q hq
  · simp (disch := omega) only [amU_at, amU_ne, amU_nj, amU_neR, up_ne, up_at, amSI_2]
    exact h4 q q1 q2
  · simp (disch := omega) only [amU_at, amU_ne, amU_nj, amU_neR, up_ne, up_at, amSI_2]
    exact h5 i hi
theorem lsI.n {m0 m n f g a} (h : lsI m0 m n f g a) (v : Int32) : lsI m0 (amU m 125 0 v) n f g a := by
  obtain ⟨h1, h2, h3, h4, h5⟩ := h
  refine ⟨fun q hq => ?_, fun q hq => ?_, fun q hq => ?_, fun q q1 q2 => ?_, fun i hi => ?_⟩
  · simp (disch := omega) only [amU_at, amU_ne, amU_nj, amU_neR, up_ne, up_at, amSI_2]
    exact h1 q hq
  · simp (disch := omega) only [amU_at, amU_ne, amU_nj, amU_neR, up_ne, up_at, amSI_2]
    exact h2 q hq
  · simp (disch := omega) only [amU_at, amU_ne, amU_nj, amU_neR, up_ne, up_at, amSI_2]
    exact h3 q hq
  · simp (disch := omega) only [amU_at, amU_ne, amU_nj, amU_neR, up_ne, up_at, amSI_2]
    exact h4 q q1 q2
  · simp (disch := omega) only [amU_at, amU_ne, amU_nj, amU_neR, up_ne, up_at, amSI_2]
    exact h5 i hi
theorem RwIs.lsI {m : Nat → Nat → Int32} {S : HS} (h : RwIs m 125 0 S) : lsI m m S.ord.length (fun q => S.ord.getD q 0) (fun q => S.sets.getD q 0) (fun q => S.ahead.getD q 0) := ⟨h.o0, h.s0, h.a0, fun _ _ _ => rfl, fun _ _ => rfl⟩
/-- a row from its lists -/
theorem lsI.row {m0 m n f g a} (h : lsI m0 m n f g a) {S T : HS} (hS : RwIs m0 125 0 S) (n7 : n ≤ 7) (t1 : T.ord.length = n) (t2 : T.sets.length = n) (t3 : T.ahead.length = n) (e0 : m 125 0 = nI n) (e1 : T.2.2.2 = S.2.2.2) (f1 : ∀ q, q < n → T.ord.getD q 0 = f q) (f2 : ∀ q, q < n → T.sets.getD q 0 = g q) (f3 : ∀ q, q < n → T.ahead.getD q 0 = a q) : RwIs m 125 0 T := by
  obtain ⟨h1, h2, h3, h4, h5⟩ := h
  have a1 : T.prior = S.prior := congrArg (fun z => z.1) e1
  have a2 : T.span = S.span := congrArg (fun z => z.2.1) e1
  have a3 : T.bound = S.bound := congrArg (fun z => z.2.2.1) e1
  have a4 : T.rule = S.rule := congrArg (fun z => z.2.2.2.1) e1
  have a5 : T.draw = S.draw := congrArg (fun z => z.2.2.2.2) e1
  refine RwIs.mk (by omega) (by omega) (by omega) (by rw [t1]; exact e0) ?_ ?_ ?_ ?_ ?_ (fun k hk => ?_) (fun k hk => ?_) (fun k hk => ?_)
  · rw [h4 1 (by decide) (by decide), a1]; exact hS.prior
  · rw [h4 2 (by decide) (by decide), a2]; exact hS.span
  · rw [h4 3 (by decide) (by decide), a3]; exact hS.bound
  · rw [h4 4 (by decide) (by decide), a4]; exact hS.rule
  · rw [h4 5 (by decide) (by decide), a5]; exact hS.draw
  · rw [f1 k (by omega)]; exact h1 k (by omega)
  · rw [f2 k (by omega)]; exact h2 k (by omega)
  · rw [f3 k (by omega)]; exact h3 k (by omega)
theorem lsI.fr {m0 m n f g a} (h : lsI m0 m n f g a) : maFr m0 m := maFr.r h.2.2.2.2
def lseR (S : HS) (k : Int32) : HS × Int32 := if k.toNatClampNeg < S.ord.length ∧ k = nI k.toNatClampNeg then (S.lose k.toNatClampNeg, nI (S.ord.length - 1)) else (S, -1)
def tX6_loses : amT := fun as h K => match as with
  | [.ref a, .int k0] => ∃ S : HS, a = (124 : Nat) ∧ mdSys h S ∧ ∀ m', RwIs m' 125 0 (lseR S k0).1 → maFr h.2.1 m' → K (some (.int (lseR S k0).2)) (amSI h m')
  | _ => False
/-! ReadingStagesModel.loses(I)I -/
def kX6_loses : Nat → Bool := fun pc => pc == 28 || pc == 65 || pc == 161
def rX6_loses : List (Nat × amS) := [(2, 2, 0, 0, (amRecv 6 tX6_isBook)), (11, 1, 0, 0, amTget 6 0), (21, 2, 0, 0, (amRecv 6 tX6_placeOf)), (35, 1, 0, 0, amTget 6 0), (44, 1, 0, 0, amTget 6 0), (72, 1, 0, 0, amTget 6 0), (81, 1, 0, 0, amTget 6 0), (94, 1, 0, 0, amTget 6 0), (103, 1, 0, 0, amTget 6 0), (122, 1, 0, 0, amTget 6 0), (129, 1, 0, 0, amTget 6 0), (139, 1, 0, 0, amTget 6 0), (149, 1, 0, 0, amTget 6 0), (168, 1, 0, 0, amTget 6 0), (179, 1, 0, 0, amTget 6 0), (200, 1, 0, 0, amTget 6 0), (209, 1, 0, 0, amTget 6 0), (219, 2, 0, 0, tX6_without)]
def eX6_loses (ret : Option Value → amH → Nat → Nat → Prop) (F : amX) : Nat → amX := amWp cX6_loses kX6_loses (amLk rX6_loses) (some .int) 0 0 ret F
def sX6_loses (ret : Option Value → amH → Nat → Nat → Prop) (F : amX) : Nat → amX := amWs cX6_loses kX6_loses (amLk rX6_loses) (some .int) 0 0 ret F
theorem wX6_loses_0 {ret F n h} {v0 v1 v2 v3 v4 st} : eX6_loses ret F (n + 1) 0 [v0, v1, v2, v3, v4] (st) h 0 0 = (amIsR v0 ∧ eX6_loses ret F n 1 [v0, v1, v2, v3, v4] (v0 :: st) h 0 0) := (amWp_dec rfl dX6_loses_0 rfl).trans rfl
theorem uX6_loses_0 {ret F n h} {v0 v1 v2 v3 v4 st} : sX6_loses ret F n 0 [v0, v1, v2, v3, v4] (st) h 0 0 = (amIsR v0 ∧ eX6_loses ret F n 1 [v0, v1, v2, v3, v4] (v0 :: st) h 0 0) := (amWs_dec dX6_loses_0 rfl).trans rfl
theorem wX6_loses_1 {ret F n h} {v0 v2 v3 v4 st x} : eX6_loses ret F (n + 1) 1 [v0, .int x, v2, v3, v4] (st) h 0 0 = (eX6_loses ret F n 2 [v0, .int x, v2, v3, v4] (.int x :: st) h 0 0) := (amWp_dec rfl dX6_loses_1 rfl).trans rfl
theorem wX6_loses_2 {ret F n h} {v0 v1 v2 v3 v4 x1 x0} : eX6_loses ret F (n + 1) 2 [v0, v1, v2, v3, v4] (.int x1 :: .ref x0 :: []) h 0 0 = (h.1 x0 = (0, 6) ∧ tX6_isBook [.ref x0, .int x1] h (fun v h => eX6_loses ret F n 5 [v0, v1, v2, v3, v4] (v.toList ++ ([])) h 0 0)) := (amWp_dec rfl dX6_loses_2 rfl).trans (amS4 (Nat.le_of_ble_eq_true rfl) (Nat.le_of_ble_eq_true rfl) (Nat.le_of_ble_eq_true rfl) (Nat.le_of_ble_eq_true rfl))
theorem wX6_loses_5 {ret F n h} {v0 v1 v2 v3 v4 st x} : eX6_loses ret F (n + 1) 5 [v0, v1, v2, v3, v4] (.int x :: st) h 0 0 = ((¬ x = 0 → eX6_loses ret F n 10 [v0, v1, v2, v3, v4] (st) h 0 0) ∧ (x = 0 → eX6_loses ret F n 8 [v0, v1, v2, v3, v4] (st) h 0 0)) := (amWp_dec rfl dX6_loses_5 rfl).trans rfl
theorem wX6_loses_8 {ret F n h} {v0 v1 v2 v3 v4 st} : eX6_loses ret F (n + 1) 8 [v0, v1, v2, v3, v4] (st) h 0 0 = (eX6_loses ret F n 9 [v0, v1, v2, v3, v4] (.int (-1) :: st) h 0 0) := (amWp_dec rfl dX6_loses_8 rfl).trans rfl
theorem wX6_loses_9 {ret F n h} {v0 v1 v2 v3 v4 x} : eX6_loses ret F (n + 1) 9 [v0, v1, v2, v3, v4] ([.int x]) h 0 0 = (ret (some (.int x)) h 0 0) := (amWp_dec rfl dX6_loses_9 rfl).trans (amTrue ⟨_, rfl, rfl⟩)
theorem wX6_loses_10 {ret F n h} {v0 v1 v2 v3 v4 st} : eX6_loses ret F (n + 1) 10 [v0, v1, v2, v3, v4] (st) h 0 0 = (amIsR v0 ∧ eX6_loses ret F n 11 [v0, v1, v2, v3, v4] (v0 :: st) h 0 0) := (amWp_dec rfl dX6_loses_10 rfl).trans rfl
theorem wX6_loses_11 {ret F n h} {v0 v1 v2 v3 v4 a} : eX6_loses ret F (n + 1) 11 [v0, v1, v2, v3, v4] (.ref a :: []) h 0 0 = (h.1 a = (0, 6) ∧ eX6_loses ret F n 14 [v0, v1, v2, v3, v4] (va_rf (h.2.2.2.1 a 0) :: []) h 0 0) := (amWp_dec rfl dX6_loses_11 rfl).trans (amS4 (Nat.le_of_ble_eq_true rfl) (Nat.le_of_ble_eq_true rfl) (Nat.le_of_ble_eq_true rfl) (Nat.le_of_ble_eq_true rfl))
theorem wX6_loses_14 {ret F n h} {v0 v1 v2 v3 v4 st} : eX6_loses ret F (n + 1) 14 [v0, v1, v2, v3, v4] (st) h 0 0 = (eX6_loses ret F n 15 [v0, v1, v2, v3, v4] (.int (nI 0) :: st) h 0 0) := (amWp_dec rfl dX6_loses_14 rfl).trans rfl
theorem wX6_loses_15 {ret F n h} {v0 v1 v2 v3 v4 st x a} : eX6_loses ret F (n + 1) 15 [v0, v1, v2, v3, v4] (.int x :: .ref a :: st) h 0 0 = ((h.1 a).1 = 1 ∧ vp_in x (h.1 a).2 ∧ eX6_loses ret F n 16 [v0, v1, v2, v3, v4] (.int (h.2.1 a x.toNatClampNeg) :: st) h 0 0) := (amWp_dec rfl dX6_loses_15 rfl).trans rfl
theorem wX6_loses_16 {ret F n h} {v0 v1 v2 v3 v4 st} : eX6_loses ret F (n + 1) 16 [v0, v1, v2, v3, v4] (st) h 0 0 = (eX6_loses ret F n 17 [v0, v1, v2, v3, v4] (.int (nI 1) :: st) h 0 0) := (amWp_dec rfl dX6_loses_16 rfl).trans rfl
theorem wX6_loses_17 {ret F n h} {v0 v1 v2 v3 v4 st y x} : eX6_loses ret F (n + 1) 17 [v0, v1, v2, v3, v4] (.int y :: .int x :: st) h 0 0 = (eX6_loses ret F n 18 [v0, v1, v2, v3, v4] (.int (x - y) :: st) h 0 0) := (amWp_dec rfl dX6_loses_17 rfl).trans rfl
theorem wX6_loses_18 {ret F n h} {v0 v1 v2 v3 v4 st x} : eX6_loses ret F (n + 1) 18 [v0, v1, v2, v3, v4] (.int x :: st) h 0 0 = (eX6_loses ret F n 19 [v0, amClr v1, .int x, v3, v4] (st) h 0 0) := (amWp_dec rfl dX6_loses_18 rfl).trans (amTrue (Nat.le_of_ble_eq_true rfl))
theorem wX6_loses_19 {ret F n h} {v0 v1 v2 v3 v4 st} : eX6_loses ret F (n + 1) 19 [v0, v1, v2, v3, v4] (st) h 0 0 = (amIsR v0 ∧ eX6_loses ret F n 20 [v0, v1, v2, v3, v4] (v0 :: st) h 0 0) := (amWp_dec rfl dX6_loses_19 rfl).trans rfl
theorem wX6_loses_20 {ret F n h} {v0 v2 v3 v4 st x} : eX6_loses ret F (n + 1) 20 [v0, .int x, v2, v3, v4] (st) h 0 0 = (eX6_loses ret F n 21 [v0, .int x, v2, v3, v4] (.int x :: st) h 0 0) := (amWp_dec rfl dX6_loses_20 rfl).trans rfl
theorem wX6_loses_21 {ret F n h} {v0 v1 v2 v3 v4 x1 x0} : eX6_loses ret F (n + 1) 21 [v0, v1, v2, v3, v4] (.int x1 :: .ref x0 :: []) h 0 0 = (h.1 x0 = (0, 6) ∧ tX6_placeOf [.ref x0, .int x1] h (fun v h => eX6_loses ret F n 24 [v0, v1, v2, v3, v4] (v.toList ++ ([])) h 0 0)) := (amWp_dec rfl dX6_loses_21 rfl).trans (amS4 (Nat.le_of_ble_eq_true rfl) (Nat.le_of_ble_eq_true rfl) (Nat.le_of_ble_eq_true rfl) (Nat.le_of_ble_eq_true rfl))
theorem wX6_loses_24 {ret F n h} {v0 v1 v2 v3 v4 st x} : eX6_loses ret F (n + 1) 24 [v0, v1, v2, v3, v4] (.int x :: st) h 0 0 = (eX6_loses ret F n 25 [v0, v1, amClr v2, .int x, v4] (st) h 0 0) := (amWp_dec rfl dX6_loses_24 rfl).trans (amTrue (Nat.le_of_ble_eq_true rfl))
theorem wX6_loses_25 {ret F n h} {v0 v1 v2 v4 st x} : eX6_loses ret F (n + 1) 25 [v0, v1, v2, .int x, v4] (st) h 0 0 = (eX6_loses ret F n 26 [v0, v1, v2, .int x, v4] (.int x :: st) h 0 0) := (amWp_dec rfl dX6_loses_25 rfl).trans rfl
theorem wX6_loses_26 {ret F n h} {v0 v1 v2 v3 v4 st x} : eX6_loses ret F (n + 1) 26 [v0, v1, v2, v3, v4] (.int x :: st) h 0 0 = (eX6_loses ret F n 28 [v0, v1, v2, amClr v3, .int x] (st) h 0 0) := (amWp_dec rfl dX6_loses_26 rfl).trans (amTrue (Nat.le_of_ble_eq_true rfl))
theorem wX6_loses_28 {ret F n ls st h k z} : eX6_loses ret F (n + 1) 28 ls st h k z = F 28 ls st h k z := amWp_cut rfl
theorem uX6_loses_28 {ret F n h} {v0 v1 v2 v3 st x} : sX6_loses ret F n 28 [v0, v1, v2, v3, .int x] (st) h 0 0 = (eX6_loses ret F n 30 [v0, v1, v2, v3, .int x] (.int x :: st) h 0 0) := (amWs_dec dX6_loses_28 rfl).trans rfl
theorem wX6_loses_30 {ret F n h} {v0 v1 v3 v4 st x} : eX6_loses ret F (n + 1) 30 [v0, v1, .int x, v3, v4] (st) h 0 0 = (eX6_loses ret F n 31 [v0, v1, .int x, v3, v4] (.int x :: st) h 0 0) := (amWp_dec rfl dX6_loses_30 rfl).trans rfl
theorem wX6_loses_31 {ret F n h} {v0 v1 v2 v3 v4 st y x} : eX6_loses ret F (n + 1) 31 [v0, v1, v2, v3, v4] (.int y :: .int x :: st) h 0 0 = ((y ≤ x → eX6_loses ret F n 62 [v0, v1, v2, v3, v4] (st) h 0 0) ∧ (¬ y ≤ x → eX6_loses ret F n 34 [v0, v1, v2, v3, v4] (st) h 0 0)) := (amWp_dec rfl dX6_loses_31 rfl).trans rfl
theorem wX6_loses_34 {ret F n h} {v0 v1 v2 v3 v4 st} : eX6_loses ret F (n + 1) 34 [v0, v1, v2, v3, v4] (st) h 0 0 = (amIsR v0 ∧ eX6_loses ret F n 35 [v0, v1, v2, v3, v4] (v0 :: st) h 0 0) := (amWp_dec rfl dX6_loses_34 rfl).trans rfl
theorem wX6_loses_35 {ret F n h} {v0 v1 v2 v3 v4 a} : eX6_loses ret F (n + 1) 35 [v0, v1, v2, v3, v4] (.ref a :: []) h 0 0 = (h.1 a = (0, 6) ∧ eX6_loses ret F n 38 [v0, v1, v2, v3, v4] (va_rf (h.2.2.2.1 a 0) :: []) h 0 0) := (amWp_dec rfl dX6_loses_35 rfl).trans (amS4 (Nat.le_of_ble_eq_true rfl) (Nat.le_of_ble_eq_true rfl) (Nat.le_of_ble_eq_true rfl) (Nat.le_of_ble_eq_true rfl))
theorem wX6_loses_38 {ret F n h} {v0 v1 v2 v3 v4 st} : eX6_loses ret F (n + 1) 38 [v0, v1, v2, v3, v4] (st) h 0 0 = (eX6_loses ret F n 40 [v0, v1, v2, v3, v4] (.int (nI 6) :: st) h 0 0) := (amWp_dec rfl dX6_loses_38 rfl).trans rfl
theorem wX6_loses_40 {ret F n h} {v0 v1 v2 v3 st x} : eX6_loses ret F (n + 1) 40 [v0, v1, v2, v3, .int x] (st) h 0 0 = (eX6_loses ret F n 42 [v0, v1, v2, v3, .int x] (.int x :: st) h 0 0) := (amWp_dec rfl dX6_loses_40 rfl).trans rfl
theorem wX6_loses_42 {ret F n h} {v0 v1 v2 v3 v4 st y x} : eX6_loses ret F (n + 1) 42 [v0, v1, v2, v3, v4] (.int y :: .int x :: st) h 0 0 = (eX6_loses ret F n 43 [v0, v1, v2, v3, v4] (.int (x + y) :: st) h 0 0) := (amWp_dec rfl dX6_loses_42 rfl).trans rfl
theorem wX6_loses_43 {ret F n h} {v0 v1 v2 v3 v4 st} : eX6_loses ret F (n + 1) 43 [v0, v1, v2, v3, v4] (st) h 0 0 = (amIsR v0 ∧ eX6_loses ret F n 44 [v0, v1, v2, v3, v4] (v0 :: st) h 0 0) := (amWp_dec rfl dX6_loses_43 rfl).trans rfl
theorem wX6_loses_44 {ret F n h} {v0 v1 v2 v3 v4 r0 r1 a} : eX6_loses ret F (n + 1) 44 [v0, v1, v2, v3, v4] (.ref a :: r0 :: r1 :: []) h 0 0 = (h.1 a = (0, 6) ∧ eX6_loses ret F n 47 [v0, v1, v2, v3, v4] (va_rf (h.2.2.2.1 a 0) :: r0 :: r1 :: []) h 0 0) := (amWp_dec rfl dX6_loses_44 rfl).trans (amS4 (Nat.le_of_ble_eq_true rfl) (Nat.le_of_ble_eq_true rfl) (Nat.le_of_ble_eq_true rfl) (Nat.le_of_ble_eq_true rfl))
theorem wX6_loses_47 {ret F n h} {v0 v1 v2 v3 v4 st} : eX6_loses ret F (n + 1) 47 [v0, v1, v2, v3, v4] (st) h 0 0 = (eX6_loses ret F n 49 [v0, v1, v2, v3, v4] (.int (nI 6) :: st) h 0 0) := (amWp_dec rfl dX6_loses_47 rfl).trans rfl
theorem wX6_loses_49 {ret F n h} {v0 v1 v2 v3 st x} : eX6_loses ret F (n + 1) 49 [v0, v1, v2, v3, .int x] (st) h 0 0 = (eX6_loses ret F n 51 [v0, v1, v2, v3, .int x] (.int x :: st) h 0 0) := (amWp_dec rfl dX6_loses_49 rfl).trans rfl
theorem wX6_loses_51 {ret F n h} {v0 v1 v2 v3 v4 st y x} : eX6_loses ret F (n + 1) 51 [v0, v1, v2, v3, v4] (.int y :: .int x :: st) h 0 0 = (eX6_loses ret F n 52 [v0, v1, v2, v3, v4] (.int (x + y) :: st) h 0 0) := (amWp_dec rfl dX6_loses_51 rfl).trans rfl
theorem wX6_loses_52 {ret F n h} {v0 v1 v2 v3 v4 st} : eX6_loses ret F (n + 1) 52 [v0, v1, v2, v3, v4] (st) h 0 0 = (eX6_loses ret F n 53 [v0, v1, v2, v3, v4] (.int (nI 1) :: st) h 0 0) := (amWp_dec rfl dX6_loses_52 rfl).trans rfl
theorem wX6_loses_53 {ret F n h} {v0 v1 v2 v3 v4 st y x} : eX6_loses ret F (n + 1) 53 [v0, v1, v2, v3, v4] (.int y :: .int x :: st) h 0 0 = (eX6_loses ret F n 54 [v0, v1, v2, v3, v4] (.int (x + y) :: st) h 0 0) := (amWp_dec rfl dX6_loses_53 rfl).trans rfl
theorem wX6_loses_54 {ret F n h} {v0 v1 v2 v3 v4 st x a} : eX6_loses ret F (n + 1) 54 [v0, v1, v2, v3, v4] (.int x :: .ref a :: st) h 0 0 = ((h.1 a).1 = 1 ∧ vp_in x (h.1 a).2 ∧ eX6_loses ret F n 55 [v0, v1, v2, v3, v4] (.int (h.2.1 a x.toNatClampNeg) :: st) h 0 0) := (amWp_dec rfl dX6_loses_54 rfl).trans rfl
theorem wX6_loses_55 {ret F n h} {v0 v1 v2 v3 v4 st y x a} : eX6_loses ret F (n + 1) 55 [v0, v1, v2, v3, v4] (.int y :: .int x :: .ref a :: st) h 0 0 = ((h.1 a).1 = 1 ∧ vp_in x (h.1 a).2 ∧ amN0 ≤ a ∧ eX6_loses ret F n 56 [v0, v1, v2, v3, v4] (st) (amSI h (amU h.2.1 a x.toNatClampNeg y)) 0 0) := (amWp_dec rfl dX6_loses_55 rfl).trans rfl
theorem wX6_loses_56 {ret F n h} {v0 v1 v2 v3 st x} : eX6_loses ret F (n + 1) 56 [v0, v1, v2, v3, .int x] (st) h 0 0 = (eX6_loses ret F n 59 [v0, v1, v2, amClr v3, .int (x + nI 1)] (st) h 0 0) := (amWp_dec rfl dX6_loses_56 rfl).trans rfl
theorem wX6_loses_59 {ret F n h} {v0 v1 v2 v3 v4 st} : eX6_loses ret F (n + 1) 59 [v0, v1, v2, v3, v4] (st) h 0 0 = (eX6_loses ret F n 28 [v0, v1, v2, v3, v4] (st) h 0 0) := (amWp_dec rfl dX6_loses_59 rfl).trans rfl
theorem wX6_loses_62 {ret F n h} {v0 v2 v3 v4 st x} : eX6_loses ret F (n + 1) 62 [v0, .int x, v2, v3, v4] (st) h 0 0 = (eX6_loses ret F n 63 [v0, .int x, v2, v3, v4] (.int x :: st) h 0 0) := (amWp_dec rfl dX6_loses_62 rfl).trans rfl
theorem wX6_loses_63 {ret F n h} {v0 v1 v2 v3 v4 st x} : eX6_loses ret F (n + 1) 63 [v0, v1, v2, v3, v4] (.int x :: st) h 0 0 = (eX6_loses ret F n 65 [v0, v1, v2, amClr v3, .int x] (st) h 0 0) := (amWp_dec rfl dX6_loses_63 rfl).trans (amTrue (Nat.le_of_ble_eq_true rfl))
theorem wX6_loses_65 {ret F n ls st h k z} : eX6_loses ret F (n + 1) 65 ls st h k z = F 65 ls st h k z := amWp_cut rfl
theorem uX6_loses_65 {ret F n h} {v0 v1 v2 v3 st x} : sX6_loses ret F n 65 [v0, v1, v2, v3, .int x] (st) h 0 0 = (eX6_loses ret F n 67 [v0, v1, v2, v3, .int x] (.int x :: st) h 0 0) := (amWs_dec dX6_loses_65 rfl).trans rfl
theorem wX6_loses_67 {ret F n h} {v0 v1 v3 v4 st x} : eX6_loses ret F (n + 1) 67 [v0, v1, .int x, v3, v4] (st) h 0 0 = (eX6_loses ret F n 68 [v0, v1, .int x, v3, v4] (.int x :: st) h 0 0) := (amWp_dec rfl dX6_loses_67 rfl).trans rfl
theorem wX6_loses_68 {ret F n h} {v0 v1 v2 v3 v4 st y x} : eX6_loses ret F (n + 1) 68 [v0, v1, v2, v3, v4] (.int y :: .int x :: st) h 0 0 = ((y ≤ x → eX6_loses ret F n 121 [v0, v1, v2, v3, v4] (st) h 0 0) ∧ (¬ y ≤ x → eX6_loses ret F n 71 [v0, v1, v2, v3, v4] (st) h 0 0)) := (amWp_dec rfl dX6_loses_68 rfl).trans rfl
theorem wX6_loses_71 {ret F n h} {v0 v1 v2 v3 v4 st} : eX6_loses ret F (n + 1) 71 [v0, v1, v2, v3, v4] (st) h 0 0 = (amIsR v0 ∧ eX6_loses ret F n 72 [v0, v1, v2, v3, v4] (v0 :: st) h 0 0) := (amWp_dec rfl dX6_loses_71 rfl).trans rfl
theorem wX6_loses_72 {ret F n h} {v0 v1 v2 v3 v4 a} : eX6_loses ret F (n + 1) 72 [v0, v1, v2, v3, v4] (.ref a :: []) h 0 0 = (h.1 a = (0, 6) ∧ eX6_loses ret F n 75 [v0, v1, v2, v3, v4] (va_rf (h.2.2.2.1 a 0) :: []) h 0 0) := (amWp_dec rfl dX6_loses_72 rfl).trans (amS4 (Nat.le_of_ble_eq_true rfl) (Nat.le_of_ble_eq_true rfl) (Nat.le_of_ble_eq_true rfl) (Nat.le_of_ble_eq_true rfl))
theorem wX6_loses_75 {ret F n h} {v0 v1 v2 v3 v4 st} : eX6_loses ret F (n + 1) 75 [v0, v1, v2, v3, v4] (st) h 0 0 = (eX6_loses ret F n 77 [v0, v1, v2, v3, v4] (.int (nI 13) :: st) h 0 0) := (amWp_dec rfl dX6_loses_75 rfl).trans rfl
theorem wX6_loses_77 {ret F n h} {v0 v1 v2 v3 st x} : eX6_loses ret F (n + 1) 77 [v0, v1, v2, v3, .int x] (st) h 0 0 = (eX6_loses ret F n 79 [v0, v1, v2, v3, .int x] (.int x :: st) h 0 0) := (amWp_dec rfl dX6_loses_77 rfl).trans rfl
theorem wX6_loses_79 {ret F n h} {v0 v1 v2 v3 v4 st y x} : eX6_loses ret F (n + 1) 79 [v0, v1, v2, v3, v4] (.int y :: .int x :: st) h 0 0 = (eX6_loses ret F n 80 [v0, v1, v2, v3, v4] (.int (x + y) :: st) h 0 0) := (amWp_dec rfl dX6_loses_79 rfl).trans rfl
theorem wX6_loses_80 {ret F n h} {v0 v1 v2 v3 v4 st} : eX6_loses ret F (n + 1) 80 [v0, v1, v2, v3, v4] (st) h 0 0 = (amIsR v0 ∧ eX6_loses ret F n 81 [v0, v1, v2, v3, v4] (v0 :: st) h 0 0) := (amWp_dec rfl dX6_loses_80 rfl).trans rfl
theorem wX6_loses_81 {ret F n h} {v0 v1 v2 v3 v4 r0 r1 a} : eX6_loses ret F (n + 1) 81 [v0, v1, v2, v3, v4] (.ref a :: r0 :: r1 :: []) h 0 0 = (h.1 a = (0, 6) ∧ eX6_loses ret F n 84 [v0, v1, v2, v3, v4] (va_rf (h.2.2.2.1 a 0) :: r0 :: r1 :: []) h 0 0) := (amWp_dec rfl dX6_loses_81 rfl).trans (amS4 (Nat.le_of_ble_eq_true rfl) (Nat.le_of_ble_eq_true rfl) (Nat.le_of_ble_eq_true rfl) (Nat.le_of_ble_eq_true rfl))
theorem wX6_loses_84 {ret F n h} {v0 v1 v2 v3 v4 st} : eX6_loses ret F (n + 1) 84 [v0, v1, v2, v3, v4] (st) h 0 0 = (eX6_loses ret F n 86 [v0, v1, v2, v3, v4] (.int (nI 13) :: st) h 0 0) := (amWp_dec rfl dX6_loses_84 rfl).trans rfl
theorem wX6_loses_86 {ret F n h} {v0 v1 v2 v3 st x} : eX6_loses ret F (n + 1) 86 [v0, v1, v2, v3, .int x] (st) h 0 0 = (eX6_loses ret F n 88 [v0, v1, v2, v3, .int x] (.int x :: st) h 0 0) := (amWp_dec rfl dX6_loses_86 rfl).trans rfl
theorem wX6_loses_88 {ret F n h} {v0 v1 v2 v3 v4 st y x} : eX6_loses ret F (n + 1) 88 [v0, v1, v2, v3, v4] (.int y :: .int x :: st) h 0 0 = (eX6_loses ret F n 89 [v0, v1, v2, v3, v4] (.int (x + y) :: st) h 0 0) := (amWp_dec rfl dX6_loses_88 rfl).trans rfl
theorem wX6_loses_89 {ret F n h} {v0 v1 v2 v3 v4 st} : eX6_loses ret F (n + 1) 89 [v0, v1, v2, v3, v4] (st) h 0 0 = (eX6_loses ret F n 90 [v0, v1, v2, v3, v4] (.int (nI 1) :: st) h 0 0) := (amWp_dec rfl dX6_loses_89 rfl).trans rfl
theorem wX6_loses_90 {ret F n h} {v0 v1 v2 v3 v4 st y x} : eX6_loses ret F (n + 1) 90 [v0, v1, v2, v3, v4] (.int y :: .int x :: st) h 0 0 = (eX6_loses ret F n 91 [v0, v1, v2, v3, v4] (.int (x + y) :: st) h 0 0) := (amWp_dec rfl dX6_loses_90 rfl).trans rfl
theorem wX6_loses_91 {ret F n h} {v0 v1 v2 v3 v4 st x a} : eX6_loses ret F (n + 1) 91 [v0, v1, v2, v3, v4] (.int x :: .ref a :: st) h 0 0 = ((h.1 a).1 = 1 ∧ vp_in x (h.1 a).2 ∧ eX6_loses ret F n 92 [v0, v1, v2, v3, v4] (.int (h.2.1 a x.toNatClampNeg) :: st) h 0 0) := (amWp_dec rfl dX6_loses_91 rfl).trans rfl
theorem wX6_loses_92 {ret F n h} {v0 v1 v2 v3 v4 st y x a} : eX6_loses ret F (n + 1) 92 [v0, v1, v2, v3, v4] (.int y :: .int x :: .ref a :: st) h 0 0 = ((h.1 a).1 = 1 ∧ vp_in x (h.1 a).2 ∧ amN0 ≤ a ∧ eX6_loses ret F n 93 [v0, v1, v2, v3, v4] (st) (amSI h (amU h.2.1 a x.toNatClampNeg y)) 0 0) := (amWp_dec rfl dX6_loses_92 rfl).trans rfl
theorem wX6_loses_93 {ret F n h} {v0 v1 v2 v3 v4 st} : eX6_loses ret F (n + 1) 93 [v0, v1, v2, v3, v4] (st) h 0 0 = (amIsR v0 ∧ eX6_loses ret F n 94 [v0, v1, v2, v3, v4] (v0 :: st) h 0 0) := (amWp_dec rfl dX6_loses_93 rfl).trans rfl
theorem wX6_loses_94 {ret F n h} {v0 v1 v2 v3 v4 a} : eX6_loses ret F (n + 1) 94 [v0, v1, v2, v3, v4] (.ref a :: []) h 0 0 = (h.1 a = (0, 6) ∧ eX6_loses ret F n 97 [v0, v1, v2, v3, v4] (va_rf (h.2.2.2.1 a 0) :: []) h 0 0) := (amWp_dec rfl dX6_loses_94 rfl).trans (amS4 (Nat.le_of_ble_eq_true rfl) (Nat.le_of_ble_eq_true rfl) (Nat.le_of_ble_eq_true rfl) (Nat.le_of_ble_eq_true rfl))
theorem wX6_loses_97 {ret F n h} {v0 v1 v2 v3 v4 st} : eX6_loses ret F (n + 1) 97 [v0, v1, v2, v3, v4] (st) h 0 0 = (eX6_loses ret F n 99 [v0, v1, v2, v3, v4] (.int (nI 20) :: st) h 0 0) := (amWp_dec rfl dX6_loses_97 rfl).trans rfl
theorem wX6_loses_99 {ret F n h} {v0 v1 v2 v3 st x} : eX6_loses ret F (n + 1) 99 [v0, v1, v2, v3, .int x] (st) h 0 0 = (eX6_loses ret F n 101 [v0, v1, v2, v3, .int x] (.int x :: st) h 0 0) := (amWp_dec rfl dX6_loses_99 rfl).trans rfl
theorem wX6_loses_101 {ret F n h} {v0 v1 v2 v3 v4 st y x} : eX6_loses ret F (n + 1) 101 [v0, v1, v2, v3, v4] (.int y :: .int x :: st) h 0 0 = (eX6_loses ret F n 102 [v0, v1, v2, v3, v4] (.int (x + y) :: st) h 0 0) := (amWp_dec rfl dX6_loses_101 rfl).trans rfl
theorem wX6_loses_102 {ret F n h} {v0 v1 v2 v3 v4 st} : eX6_loses ret F (n + 1) 102 [v0, v1, v2, v3, v4] (st) h 0 0 = (amIsR v0 ∧ eX6_loses ret F n 103 [v0, v1, v2, v3, v4] (v0 :: st) h 0 0) := (amWp_dec rfl dX6_loses_102 rfl).trans rfl
theorem wX6_loses_103 {ret F n h} {v0 v1 v2 v3 v4 r0 r1 a} : eX6_loses ret F (n + 1) 103 [v0, v1, v2, v3, v4] (.ref a :: r0 :: r1 :: []) h 0 0 = (h.1 a = (0, 6) ∧ eX6_loses ret F n 106 [v0, v1, v2, v3, v4] (va_rf (h.2.2.2.1 a 0) :: r0 :: r1 :: []) h 0 0) := (amWp_dec rfl dX6_loses_103 rfl).trans (amS4 (Nat.le_of_ble_eq_true rfl) (Nat.le_of_ble_eq_true rfl) (Nat.le_of_ble_eq_true rfl) (Nat.le_of_ble_eq_true rfl))
theorem wX6_loses_106 {ret F n h} {v0 v1 v2 v3 v4 st} : eX6_loses ret F (n + 1) 106 [v0, v1, v2, v3, v4] (st) h 0 0 = (eX6_loses ret F n 108 [v0, v1, v2, v3, v4] (.int (nI 20) :: st) h 0 0) := (amWp_dec rfl dX6_loses_106 rfl).trans rfl
theorem wX6_loses_108 {ret F n h} {v0 v1 v2 v3 st x} : eX6_loses ret F (n + 1) 108 [v0, v1, v2, v3, .int x] (st) h 0 0 = (eX6_loses ret F n 110 [v0, v1, v2, v3, .int x] (.int x :: st) h 0 0) := (amWp_dec rfl dX6_loses_108 rfl).trans rfl
theorem wX6_loses_110 {ret F n h} {v0 v1 v2 v3 v4 st y x} : eX6_loses ret F (n + 1) 110 [v0, v1, v2, v3, v4] (.int y :: .int x :: st) h 0 0 = (eX6_loses ret F n 111 [v0, v1, v2, v3, v4] (.int (x + y) :: st) h 0 0) := (amWp_dec rfl dX6_loses_110 rfl).trans rfl
theorem wX6_loses_111 {ret F n h} {v0 v1 v2 v3 v4 st} : eX6_loses ret F (n + 1) 111 [v0, v1, v2, v3, v4] (st) h 0 0 = (eX6_loses ret F n 112 [v0, v1, v2, v3, v4] (.int (nI 1) :: st) h 0 0) := (amWp_dec rfl dX6_loses_111 rfl).trans rfl
theorem wX6_loses_112 {ret F n h} {v0 v1 v2 v3 v4 st y x} : eX6_loses ret F (n + 1) 112 [v0, v1, v2, v3, v4] (.int y :: .int x :: st) h 0 0 = (eX6_loses ret F n 113 [v0, v1, v2, v3, v4] (.int (x + y) :: st) h 0 0) := (amWp_dec rfl dX6_loses_112 rfl).trans rfl
theorem wX6_loses_113 {ret F n h} {v0 v1 v2 v3 v4 st x a} : eX6_loses ret F (n + 1) 113 [v0, v1, v2, v3, v4] (.int x :: .ref a :: st) h 0 0 = ((h.1 a).1 = 1 ∧ vp_in x (h.1 a).2 ∧ eX6_loses ret F n 114 [v0, v1, v2, v3, v4] (.int (h.2.1 a x.toNatClampNeg) :: st) h 0 0) := (amWp_dec rfl dX6_loses_113 rfl).trans rfl
theorem wX6_loses_114 {ret F n h} {v0 v1 v2 v3 v4 st y x a} : eX6_loses ret F (n + 1) 114 [v0, v1, v2, v3, v4] (.int y :: .int x :: .ref a :: st) h 0 0 = ((h.1 a).1 = 1 ∧ vp_in x (h.1 a).2 ∧ amN0 ≤ a ∧ eX6_loses ret F n 115 [v0, v1, v2, v3, v4] (st) (amSI h (amU h.2.1 a x.toNatClampNeg y)) 0 0) := (amWp_dec rfl dX6_loses_114 rfl).trans rfl
theorem wX6_loses_115 {ret F n h} {v0 v1 v2 v3 st x} : eX6_loses ret F (n + 1) 115 [v0, v1, v2, v3, .int x] (st) h 0 0 = (eX6_loses ret F n 118 [v0, v1, v2, amClr v3, .int (x + nI 1)] (st) h 0 0) := (amWp_dec rfl dX6_loses_115 rfl).trans rfl
theorem wX6_loses_118 {ret F n h} {v0 v1 v2 v3 v4 st} : eX6_loses ret F (n + 1) 118 [v0, v1, v2, v3, v4] (st) h 0 0 = (eX6_loses ret F n 65 [v0, v1, v2, v3, v4] (st) h 0 0) := (amWp_dec rfl dX6_loses_118 rfl).trans rfl
theorem wX6_loses_121 {ret F n h} {v0 v1 v2 v3 v4 st} : eX6_loses ret F (n + 1) 121 [v0, v1, v2, v3, v4] (st) h 0 0 = (amIsR v0 ∧ eX6_loses ret F n 122 [v0, v1, v2, v3, v4] (v0 :: st) h 0 0) := (amWp_dec rfl dX6_loses_121 rfl).trans rfl
theorem wX6_loses_122 {ret F n h} {v0 v1 v2 v3 v4 a} : eX6_loses ret F (n + 1) 122 [v0, v1, v2, v3, v4] (.ref a :: []) h 0 0 = (h.1 a = (0, 6) ∧ eX6_loses ret F n 125 [v0, v1, v2, v3, v4] (va_rf (h.2.2.2.1 a 0) :: []) h 0 0) := (amWp_dec rfl dX6_loses_122 rfl).trans (amS4 (Nat.le_of_ble_eq_true rfl) (Nat.le_of_ble_eq_true rfl) (Nat.le_of_ble_eq_true rfl) (Nat.le_of_ble_eq_true rfl))
theorem wX6_loses_125 {ret F n h} {v0 v1 v2 v3 v4 st} : eX6_loses ret F (n + 1) 125 [v0, v1, v2, v3, v4] (st) h 0 0 = (eX6_loses ret F n 126 [v0, v1, v2, v3, v4] (.int (nI 0) :: st) h 0 0) := (amWp_dec rfl dX6_loses_125 rfl).trans rfl
theorem wX6_loses_126 {ret F n h} {v0 v1 v3 v4 st x} : eX6_loses ret F (n + 1) 126 [v0, v1, .int x, v3, v4] (st) h 0 0 = (eX6_loses ret F n 127 [v0, v1, .int x, v3, v4] (.int x :: st) h 0 0) := (amWp_dec rfl dX6_loses_126 rfl).trans rfl
theorem wX6_loses_127 {ret F n h} {v0 v1 v2 v3 v4 st y x a} : eX6_loses ret F (n + 1) 127 [v0, v1, v2, v3, v4] (.int y :: .int x :: .ref a :: st) h 0 0 = ((h.1 a).1 = 1 ∧ vp_in x (h.1 a).2 ∧ amN0 ≤ a ∧ eX6_loses ret F n 128 [v0, v1, v2, v3, v4] (st) (amSI h (amU h.2.1 a x.toNatClampNeg y)) 0 0) := (amWp_dec rfl dX6_loses_127 rfl).trans rfl
theorem wX6_loses_128 {ret F n h} {v0 v1 v2 v3 v4 st} : eX6_loses ret F (n + 1) 128 [v0, v1, v2, v3, v4] (st) h 0 0 = (amIsR v0 ∧ eX6_loses ret F n 129 [v0, v1, v2, v3, v4] (v0 :: st) h 0 0) := (amWp_dec rfl dX6_loses_128 rfl).trans rfl
theorem wX6_loses_129 {ret F n h} {v0 v1 v2 v3 v4 a} : eX6_loses ret F (n + 1) 129 [v0, v1, v2, v3, v4] (.ref a :: []) h 0 0 = (h.1 a = (0, 6) ∧ eX6_loses ret F n 132 [v0, v1, v2, v3, v4] (va_rf (h.2.2.2.1 a 0) :: []) h 0 0) := (amWp_dec rfl dX6_loses_129 rfl).trans (amS4 (Nat.le_of_ble_eq_true rfl) (Nat.le_of_ble_eq_true rfl) (Nat.le_of_ble_eq_true rfl) (Nat.le_of_ble_eq_true rfl))
theorem wX6_loses_132 {ret F n h} {v0 v1 v2 v3 v4 st} : eX6_loses ret F (n + 1) 132 [v0, v1, v2, v3, v4] (st) h 0 0 = (eX6_loses ret F n 134 [v0, v1, v2, v3, v4] (.int (nI 6) :: st) h 0 0) := (amWp_dec rfl dX6_loses_132 rfl).trans rfl
theorem wX6_loses_134 {ret F n h} {v0 v1 v3 v4 st x} : eX6_loses ret F (n + 1) 134 [v0, v1, .int x, v3, v4] (st) h 0 0 = (eX6_loses ret F n 135 [v0, v1, .int x, v3, v4] (.int x :: st) h 0 0) := (amWp_dec rfl dX6_loses_134 rfl).trans rfl
theorem wX6_loses_135 {ret F n h} {v0 v1 v2 v3 v4 st y x} : eX6_loses ret F (n + 1) 135 [v0, v1, v2, v3, v4] (.int y :: .int x :: st) h 0 0 = (eX6_loses ret F n 136 [v0, v1, v2, v3, v4] (.int (x + y) :: st) h 0 0) := (amWp_dec rfl dX6_loses_135 rfl).trans rfl
theorem wX6_loses_136 {ret F n h} {v0 v1 v2 v3 v4 st} : eX6_loses ret F (n + 1) 136 [v0, v1, v2, v3, v4] (st) h 0 0 = (eX6_loses ret F n 137 [v0, v1, v2, v3, v4] (.int (nI 0) :: st) h 0 0) := (amWp_dec rfl dX6_loses_136 rfl).trans rfl
theorem wX6_loses_137 {ret F n h} {v0 v1 v2 v3 v4 st y x a} : eX6_loses ret F (n + 1) 137 [v0, v1, v2, v3, v4] (.int y :: .int x :: .ref a :: st) h 0 0 = ((h.1 a).1 = 1 ∧ vp_in x (h.1 a).2 ∧ amN0 ≤ a ∧ eX6_loses ret F n 138 [v0, v1, v2, v3, v4] (st) (amSI h (amU h.2.1 a x.toNatClampNeg y)) 0 0) := (amWp_dec rfl dX6_loses_137 rfl).trans rfl
theorem wX6_loses_138 {ret F n h} {v0 v1 v2 v3 v4 st} : eX6_loses ret F (n + 1) 138 [v0, v1, v2, v3, v4] (st) h 0 0 = (amIsR v0 ∧ eX6_loses ret F n 139 [v0, v1, v2, v3, v4] (v0 :: st) h 0 0) := (amWp_dec rfl dX6_loses_138 rfl).trans rfl
theorem wX6_loses_139 {ret F n h} {v0 v1 v2 v3 v4 a} : eX6_loses ret F (n + 1) 139 [v0, v1, v2, v3, v4] (.ref a :: []) h 0 0 = (h.1 a = (0, 6) ∧ eX6_loses ret F n 142 [v0, v1, v2, v3, v4] (va_rf (h.2.2.2.1 a 0) :: []) h 0 0) := (amWp_dec rfl dX6_loses_139 rfl).trans (amS4 (Nat.le_of_ble_eq_true rfl) (Nat.le_of_ble_eq_true rfl) (Nat.le_of_ble_eq_true rfl) (Nat.le_of_ble_eq_true rfl))
theorem wX6_loses_142 {ret F n h} {v0 v1 v2 v3 v4 st} : eX6_loses ret F (n + 1) 142 [v0, v1, v2, v3, v4] (st) h 0 0 = (eX6_loses ret F n 144 [v0, v1, v2, v3, v4] (.int (nI 13) :: st) h 0 0) := (amWp_dec rfl dX6_loses_142 rfl).trans rfl
theorem wX6_loses_144 {ret F n h} {v0 v1 v3 v4 st x} : eX6_loses ret F (n + 1) 144 [v0, v1, .int x, v3, v4] (st) h 0 0 = (eX6_loses ret F n 145 [v0, v1, .int x, v3, v4] (.int x :: st) h 0 0) := (amWp_dec rfl dX6_loses_144 rfl).trans rfl
theorem wX6_loses_145 {ret F n h} {v0 v1 v2 v3 v4 st y x} : eX6_loses ret F (n + 1) 145 [v0, v1, v2, v3, v4] (.int y :: .int x :: st) h 0 0 = (eX6_loses ret F n 146 [v0, v1, v2, v3, v4] (.int (x + y) :: st) h 0 0) := (amWp_dec rfl dX6_loses_145 rfl).trans rfl
theorem wX6_loses_146 {ret F n h} {v0 v1 v2 v3 v4 st} : eX6_loses ret F (n + 1) 146 [v0, v1, v2, v3, v4] (st) h 0 0 = (eX6_loses ret F n 147 [v0, v1, v2, v3, v4] (.int (nI 0) :: st) h 0 0) := (amWp_dec rfl dX6_loses_146 rfl).trans rfl
theorem wX6_loses_147 {ret F n h} {v0 v1 v2 v3 v4 st y x a} : eX6_loses ret F (n + 1) 147 [v0, v1, v2, v3, v4] (.int y :: .int x :: .ref a :: st) h 0 0 = ((h.1 a).1 = 1 ∧ vp_in x (h.1 a).2 ∧ amN0 ≤ a ∧ eX6_loses ret F n 148 [v0, v1, v2, v3, v4] (st) (amSI h (amU h.2.1 a x.toNatClampNeg y)) 0 0) := (amWp_dec rfl dX6_loses_147 rfl).trans rfl
theorem wX6_loses_148 {ret F n h} {v0 v1 v2 v3 v4 st} : eX6_loses ret F (n + 1) 148 [v0, v1, v2, v3, v4] (st) h 0 0 = (amIsR v0 ∧ eX6_loses ret F n 149 [v0, v1, v2, v3, v4] (v0 :: st) h 0 0) := (amWp_dec rfl dX6_loses_148 rfl).trans rfl
theorem wX6_loses_149 {ret F n h} {v0 v1 v2 v3 v4 a} : eX6_loses ret F (n + 1) 149 [v0, v1, v2, v3, v4] (.ref a :: []) h 0 0 = (h.1 a = (0, 6) ∧ eX6_loses ret F n 152 [v0, v1, v2, v3, v4] (va_rf (h.2.2.2.1 a 0) :: []) h 0 0) := (amWp_dec rfl dX6_loses_149 rfl).trans (amS4 (Nat.le_of_ble_eq_true rfl) (Nat.le_of_ble_eq_true rfl) (Nat.le_of_ble_eq_true rfl) (Nat.le_of_ble_eq_true rfl))
theorem wX6_loses_152 {ret F n h} {v0 v1 v2 v3 v4 st} : eX6_loses ret F (n + 1) 152 [v0, v1, v2, v3, v4] (st) h 0 0 = (eX6_loses ret F n 154 [v0, v1, v2, v3, v4] (.int (nI 20) :: st) h 0 0) := (amWp_dec rfl dX6_loses_152 rfl).trans rfl
theorem wX6_loses_154 {ret F n h} {v0 v1 v3 v4 st x} : eX6_loses ret F (n + 1) 154 [v0, v1, .int x, v3, v4] (st) h 0 0 = (eX6_loses ret F n 155 [v0, v1, .int x, v3, v4] (.int x :: st) h 0 0) := (amWp_dec rfl dX6_loses_154 rfl).trans rfl
theorem wX6_loses_155 {ret F n h} {v0 v1 v2 v3 v4 st y x} : eX6_loses ret F (n + 1) 155 [v0, v1, v2, v3, v4] (.int y :: .int x :: st) h 0 0 = (eX6_loses ret F n 156 [v0, v1, v2, v3, v4] (.int (x + y) :: st) h 0 0) := (amWp_dec rfl dX6_loses_155 rfl).trans rfl
theorem wX6_loses_156 {ret F n h} {v0 v1 v2 v3 v4 st} : eX6_loses ret F (n + 1) 156 [v0, v1, v2, v3, v4] (st) h 0 0 = (eX6_loses ret F n 157 [v0, v1, v2, v3, v4] (.int (nI 0) :: st) h 0 0) := (amWp_dec rfl dX6_loses_156 rfl).trans rfl
theorem wX6_loses_157 {ret F n h} {v0 v1 v2 v3 v4 st y x a} : eX6_loses ret F (n + 1) 157 [v0, v1, v2, v3, v4] (.int y :: .int x :: .ref a :: st) h 0 0 = ((h.1 a).1 = 1 ∧ vp_in x (h.1 a).2 ∧ amN0 ≤ a ∧ eX6_loses ret F n 158 [v0, v1, v2, v3, v4] (st) (amSI h (amU h.2.1 a x.toNatClampNeg y)) 0 0) := (amWp_dec rfl dX6_loses_157 rfl).trans rfl
theorem wX6_loses_158 {ret F n h} {v0 v1 v2 v3 v4 st} : eX6_loses ret F (n + 1) 158 [v0, v1, v2, v3, v4] (st) h 0 0 = (eX6_loses ret F n 159 [v0, v1, v2, v3, v4] (.int (nI 0) :: st) h 0 0) := (amWp_dec rfl dX6_loses_158 rfl).trans rfl
theorem wX6_loses_159 {ret F n h} {v0 v1 v2 v3 v4 st x} : eX6_loses ret F (n + 1) 159 [v0, v1, v2, v3, v4] (.int x :: st) h 0 0 = (eX6_loses ret F n 161 [v0, v1, v2, amClr v3, .int x] (st) h 0 0) := (amWp_dec rfl dX6_loses_159 rfl).trans (amTrue (Nat.le_of_ble_eq_true rfl))
theorem wX6_loses_161 {ret F n ls st h k z} : eX6_loses ret F (n + 1) 161 ls st h k z = F 161 ls st h k z := amWp_cut rfl
theorem uX6_loses_161 {ret F n h} {v0 v1 v2 v3 st x} : sX6_loses ret F n 161 [v0, v1, v2, v3, .int x] (st) h 0 0 = (eX6_loses ret F n 163 [v0, v1, v2, v3, .int x] (.int x :: st) h 0 0) := (amWs_dec dX6_loses_161 rfl).trans rfl
theorem wX6_loses_163 {ret F n h} {v0 v1 v3 v4 st x} : eX6_loses ret F (n + 1) 163 [v0, v1, .int x, v3, v4] (st) h 0 0 = (eX6_loses ret F n 164 [v0, v1, .int x, v3, v4] (.int x :: st) h 0 0) := (amWp_dec rfl dX6_loses_163 rfl).trans rfl
theorem wX6_loses_164 {ret F n h} {v0 v1 v2 v3 v4 st y x} : eX6_loses ret F (n + 1) 164 [v0, v1, v2, v3, v4] (.int y :: .int x :: st) h 0 0 = ((y ≤ x → eX6_loses ret F n 229 [v0, v1, v2, v3, v4] (st) h 0 0) ∧ (¬ y ≤ x → eX6_loses ret F n 167 [v0, v1, v2, v3, v4] (st) h 0 0)) := (amWp_dec rfl dX6_loses_164 rfl).trans rfl
theorem wX6_loses_167 {ret F n h} {v0 v1 v2 v3 v4 st} : eX6_loses ret F (n + 1) 167 [v0, v1, v2, v3, v4] (st) h 0 0 = (amIsR v0 ∧ eX6_loses ret F n 168 [v0, v1, v2, v3, v4] (v0 :: st) h 0 0) := (amWp_dec rfl dX6_loses_167 rfl).trans rfl
theorem wX6_loses_168 {ret F n h} {v0 v1 v2 v3 v4 a} : eX6_loses ret F (n + 1) 168 [v0, v1, v2, v3, v4] (.ref a :: []) h 0 0 = (h.1 a = (0, 6) ∧ eX6_loses ret F n 171 [v0, v1, v2, v3, v4] (va_rf (h.2.2.2.1 a 0) :: []) h 0 0) := (amWp_dec rfl dX6_loses_168 rfl).trans (amS4 (Nat.le_of_ble_eq_true rfl) (Nat.le_of_ble_eq_true rfl) (Nat.le_of_ble_eq_true rfl) (Nat.le_of_ble_eq_true rfl))
theorem wX6_loses_171 {ret F n h} {v0 v1 v2 v3 v4 st} : eX6_loses ret F (n + 1) 171 [v0, v1, v2, v3, v4] (st) h 0 0 = (eX6_loses ret F n 173 [v0, v1, v2, v3, v4] (.int (nI 6) :: st) h 0 0) := (amWp_dec rfl dX6_loses_171 rfl).trans rfl
theorem wX6_loses_173 {ret F n h} {v0 v1 v2 v3 st x} : eX6_loses ret F (n + 1) 173 [v0, v1, v2, v3, .int x] (st) h 0 0 = (eX6_loses ret F n 175 [v0, v1, v2, v3, .int x] (.int x :: st) h 0 0) := (amWp_dec rfl dX6_loses_173 rfl).trans rfl
theorem wX6_loses_175 {ret F n h} {v0 v1 v2 v3 v4 st y x} : eX6_loses ret F (n + 1) 175 [v0, v1, v2, v3, v4] (.int y :: .int x :: st) h 0 0 = (eX6_loses ret F n 176 [v0, v1, v2, v3, v4] (.int (x + y) :: st) h 0 0) := (amWp_dec rfl dX6_loses_175 rfl).trans rfl
theorem wX6_loses_176 {ret F n h} {v0 v1 v2 v3 v4 st x a} : eX6_loses ret F (n + 1) 176 [v0, v1, v2, v3, v4] (.int x :: .ref a :: st) h 0 0 = (eX6_loses ret F n 177 [v0, v1, v2, v3, v4] (.int x :: .ref a :: .int x :: .ref a :: st) h 0 0) := (amWp_dec rfl dX6_loses_176 rfl).trans (amS2 rfl rfl)
theorem wX6_loses_177 {ret F n h} {v0 v1 v2 v3 v4 st x a} : eX6_loses ret F (n + 1) 177 [v0, v1, v2, v3, v4] (.int x :: .ref a :: st) h 0 0 = ((h.1 a).1 = 1 ∧ vp_in x (h.1 a).2 ∧ eX6_loses ret F n 178 [v0, v1, v2, v3, v4] (.int (h.2.1 a x.toNatClampNeg) :: st) h 0 0) := (amWp_dec rfl dX6_loses_177 rfl).trans rfl
theorem wX6_loses_178 {ret F n h} {v0 v1 v2 v3 v4 st} : eX6_loses ret F (n + 1) 178 [v0, v1, v2, v3, v4] (st) h 0 0 = (amIsR v0 ∧ eX6_loses ret F n 179 [v0, v1, v2, v3, v4] (v0 :: st) h 0 0) := (amWp_dec rfl dX6_loses_178 rfl).trans rfl
theorem wX6_loses_179 {ret F n h} {v0 v1 v2 v3 v4 r0 r1 r2 a} : eX6_loses ret F (n + 1) 179 [v0, v1, v2, v3, v4] (.ref a :: r0 :: r1 :: r2 :: []) h 0 0 = (h.1 a = (0, 6) ∧ eX6_loses ret F n 182 [v0, v1, v2, v3, v4] (va_rf (h.2.2.2.1 a 0) :: r0 :: r1 :: r2 :: []) h 0 0) := (amWp_dec rfl dX6_loses_179 rfl).trans (amS4 (Nat.le_of_ble_eq_true rfl) (Nat.le_of_ble_eq_true rfl) (Nat.le_of_ble_eq_true rfl) (Nat.le_of_ble_eq_true rfl))
theorem wX6_loses_182 {ret F n h} {v0 v1 v2 v3 v4 st} : eX6_loses ret F (n + 1) 182 [v0, v1, v2, v3, v4] (st) h 0 0 = (eX6_loses ret F n 184 [v0, v1, v2, v3, v4] (.int (nI 6) :: st) h 0 0) := (amWp_dec rfl dX6_loses_182 rfl).trans rfl
theorem wX6_loses_184 {ret F n h} {v0 v1 v2 v3 st x} : eX6_loses ret F (n + 1) 184 [v0, v1, v2, v3, .int x] (st) h 0 0 = (eX6_loses ret F n 186 [v0, v1, v2, v3, .int x] (.int x :: st) h 0 0) := (amWp_dec rfl dX6_loses_184 rfl).trans rfl
theorem wX6_loses_186 {ret F n h} {v0 v1 v2 v3 v4 st y x} : eX6_loses ret F (n + 1) 186 [v0, v1, v2, v3, v4] (.int y :: .int x :: st) h 0 0 = (eX6_loses ret F n 187 [v0, v1, v2, v3, v4] (.int (x + y) :: st) h 0 0) := (amWp_dec rfl dX6_loses_186 rfl).trans rfl
theorem wX6_loses_187 {ret F n h} {v0 v1 v2 v3 v4 st x a} : eX6_loses ret F (n + 1) 187 [v0, v1, v2, v3, v4] (.int x :: .ref a :: st) h 0 0 = ((h.1 a).1 = 1 ∧ vp_in x (h.1 a).2 ∧ eX6_loses ret F n 188 [v0, v1, v2, v3, v4] (.int (h.2.1 a x.toNatClampNeg) :: st) h 0 0) := (amWp_dec rfl dX6_loses_187 rfl).trans rfl
theorem wX6_loses_188 {ret F n h} {v0 v2 v3 v4 st x} : eX6_loses ret F (n + 1) 188 [v0, .int x, v2, v3, v4] (st) h 0 0 = (eX6_loses ret F n 189 [v0, .int x, v2, v3, v4] (.int x :: st) h 0 0) := (amWp_dec rfl dX6_loses_188 rfl).trans rfl
theorem wX6_loses_189 {ret F n h} {v0 v1 v2 v3 v4 st y x} : eX6_loses ret F (n + 1) 189 [v0, v1, v2, v3, v4] (.int y :: .int x :: st) h 0 0 = ((x ≤ y → eX6_loses ret F n 196 [v0, v1, v2, v3, v4] (st) h 0 0) ∧ (¬ x ≤ y → eX6_loses ret F n 192 [v0, v1, v2, v3, v4] (st) h 0 0)) := (amWp_dec rfl dX6_loses_189 rfl).trans rfl
theorem wX6_loses_192 {ret F n h} {v0 v1 v2 v3 v4 st} : eX6_loses ret F (n + 1) 192 [v0, v1, v2, v3, v4] (st) h 0 0 = (eX6_loses ret F n 193 [v0, v1, v2, v3, v4] (.int (nI 1) :: st) h 0 0) := (amWp_dec rfl dX6_loses_192 rfl).trans rfl
theorem wX6_loses_193 {ret F n h} {v0 v1 v2 v3 v4 st} : eX6_loses ret F (n + 1) 193 [v0, v1, v2, v3, v4] (st) h 0 0 = (eX6_loses ret F n 197 [v0, v1, v2, v3, v4] (st) h 0 0) := (amWp_dec rfl dX6_loses_193 rfl).trans rfl
theorem wX6_loses_196 {ret F n h} {v0 v1 v2 v3 v4 st} : eX6_loses ret F (n + 1) 196 [v0, v1, v2, v3, v4] (st) h 0 0 = (eX6_loses ret F n 197 [v0, v1, v2, v3, v4] (.int (nI 0) :: st) h 0 0) := (amWp_dec rfl dX6_loses_196 rfl).trans rfl
theorem wX6_loses_197 {ret F n h} {v0 v1 v2 v3 v4 st y x} : eX6_loses ret F (n + 1) 197 [v0, v1, v2, v3, v4] (.int y :: .int x :: st) h 0 0 = (eX6_loses ret F n 198 [v0, v1, v2, v3, v4] (.int (x - y) :: st) h 0 0) := (amWp_dec rfl dX6_loses_197 rfl).trans rfl
theorem wX6_loses_198 {ret F n h} {v0 v1 v2 v3 v4 st y x a} : eX6_loses ret F (n + 1) 198 [v0, v1, v2, v3, v4] (.int y :: .int x :: .ref a :: st) h 0 0 = ((h.1 a).1 = 1 ∧ vp_in x (h.1 a).2 ∧ amN0 ≤ a ∧ eX6_loses ret F n 199 [v0, v1, v2, v3, v4] (st) (amSI h (amU h.2.1 a x.toNatClampNeg y)) 0 0) := (amWp_dec rfl dX6_loses_198 rfl).trans rfl
theorem wX6_loses_199 {ret F n h} {v0 v1 v2 v3 v4 st} : eX6_loses ret F (n + 1) 199 [v0, v1, v2, v3, v4] (st) h 0 0 = (amIsR v0 ∧ eX6_loses ret F n 200 [v0, v1, v2, v3, v4] (v0 :: st) h 0 0) := (amWp_dec rfl dX6_loses_199 rfl).trans rfl
theorem wX6_loses_200 {ret F n h} {v0 v1 v2 v3 v4 a} : eX6_loses ret F (n + 1) 200 [v0, v1, v2, v3, v4] (.ref a :: []) h 0 0 = (h.1 a = (0, 6) ∧ eX6_loses ret F n 203 [v0, v1, v2, v3, v4] (va_rf (h.2.2.2.1 a 0) :: []) h 0 0) := (amWp_dec rfl dX6_loses_200 rfl).trans (amS4 (Nat.le_of_ble_eq_true rfl) (Nat.le_of_ble_eq_true rfl) (Nat.le_of_ble_eq_true rfl) (Nat.le_of_ble_eq_true rfl))
theorem wX6_loses_203 {ret F n h} {v0 v1 v2 v3 v4 st} : eX6_loses ret F (n + 1) 203 [v0, v1, v2, v3, v4] (st) h 0 0 = (eX6_loses ret F n 205 [v0, v1, v2, v3, v4] (.int (nI 20) :: st) h 0 0) := (amWp_dec rfl dX6_loses_203 rfl).trans rfl
theorem wX6_loses_205 {ret F n h} {v0 v1 v2 v3 st x} : eX6_loses ret F (n + 1) 205 [v0, v1, v2, v3, .int x] (st) h 0 0 = (eX6_loses ret F n 207 [v0, v1, v2, v3, .int x] (.int x :: st) h 0 0) := (amWp_dec rfl dX6_loses_205 rfl).trans rfl
theorem wX6_loses_207 {ret F n h} {v0 v1 v2 v3 v4 st y x} : eX6_loses ret F (n + 1) 207 [v0, v1, v2, v3, v4] (.int y :: .int x :: st) h 0 0 = (eX6_loses ret F n 208 [v0, v1, v2, v3, v4] (.int (x + y) :: st) h 0 0) := (amWp_dec rfl dX6_loses_207 rfl).trans rfl
theorem wX6_loses_208 {ret F n h} {v0 v1 v2 v3 v4 st} : eX6_loses ret F (n + 1) 208 [v0, v1, v2, v3, v4] (st) h 0 0 = (amIsR v0 ∧ eX6_loses ret F n 209 [v0, v1, v2, v3, v4] (v0 :: st) h 0 0) := (amWp_dec rfl dX6_loses_208 rfl).trans rfl
theorem wX6_loses_209 {ret F n h} {v0 v1 v2 v3 v4 r0 r1 a} : eX6_loses ret F (n + 1) 209 [v0, v1, v2, v3, v4] (.ref a :: r0 :: r1 :: []) h 0 0 = (h.1 a = (0, 6) ∧ eX6_loses ret F n 212 [v0, v1, v2, v3, v4] (va_rf (h.2.2.2.1 a 0) :: r0 :: r1 :: []) h 0 0) := (amWp_dec rfl dX6_loses_209 rfl).trans (amS4 (Nat.le_of_ble_eq_true rfl) (Nat.le_of_ble_eq_true rfl) (Nat.le_of_ble_eq_true rfl) (Nat.le_of_ble_eq_true rfl))
theorem wX6_loses_212 {ret F n h} {v0 v1 v2 v3 v4 st} : eX6_loses ret F (n + 1) 212 [v0, v1, v2, v3, v4] (st) h 0 0 = (eX6_loses ret F n 214 [v0, v1, v2, v3, v4] (.int (nI 20) :: st) h 0 0) := (amWp_dec rfl dX6_loses_212 rfl).trans rfl
theorem wX6_loses_214 {ret F n h} {v0 v1 v2 v3 st x} : eX6_loses ret F (n + 1) 214 [v0, v1, v2, v3, .int x] (st) h 0 0 = (eX6_loses ret F n 216 [v0, v1, v2, v3, .int x] (.int x :: st) h 0 0) := (amWp_dec rfl dX6_loses_214 rfl).trans rfl
theorem wX6_loses_216 {ret F n h} {v0 v1 v2 v3 v4 st y x} : eX6_loses ret F (n + 1) 216 [v0, v1, v2, v3, v4] (.int y :: .int x :: st) h 0 0 = (eX6_loses ret F n 217 [v0, v1, v2, v3, v4] (.int (x + y) :: st) h 0 0) := (amWp_dec rfl dX6_loses_216 rfl).trans rfl
theorem wX6_loses_217 {ret F n h} {v0 v1 v2 v3 v4 st x a} : eX6_loses ret F (n + 1) 217 [v0, v1, v2, v3, v4] (.int x :: .ref a :: st) h 0 0 = ((h.1 a).1 = 1 ∧ vp_in x (h.1 a).2 ∧ eX6_loses ret F n 218 [v0, v1, v2, v3, v4] (.int (h.2.1 a x.toNatClampNeg) :: st) h 0 0) := (amWp_dec rfl dX6_loses_217 rfl).trans rfl
theorem wX6_loses_218 {ret F n h} {v0 v2 v3 v4 st x} : eX6_loses ret F (n + 1) 218 [v0, .int x, v2, v3, v4] (st) h 0 0 = (eX6_loses ret F n 219 [v0, .int x, v2, v3, v4] (.int x :: st) h 0 0) := (amWp_dec rfl dX6_loses_218 rfl).trans rfl
theorem wX6_loses_219 {ret F n h} {v0 v1 v2 v3 v4 x1 x0 r0 r1} : eX6_loses ret F (n + 1) 219 [v0, v1, v2, v3, v4] (.int x1 :: .int x0 :: r0 :: r1 :: []) h 0 0 = (tX6_without [.int x0, .int x1] h (fun v h => eX6_loses ret F n 222 [v0, v1, v2, v3, v4] (v.toList ++ (r0 :: r1 :: [])) h 0 0)) := (amWp_dec rfl dX6_loses_219 rfl).trans (amS4 (Nat.le_of_ble_eq_true rfl) (Nat.le_of_ble_eq_true rfl) (Nat.le_of_ble_eq_true rfl) (Nat.le_of_ble_eq_true rfl))
theorem wX6_loses_222 {ret F n h} {v0 v1 v2 v3 v4 st y x a} : eX6_loses ret F (n + 1) 222 [v0, v1, v2, v3, v4] (.int y :: .int x :: .ref a :: st) h 0 0 = ((h.1 a).1 = 1 ∧ vp_in x (h.1 a).2 ∧ amN0 ≤ a ∧ eX6_loses ret F n 223 [v0, v1, v2, v3, v4] (st) (amSI h (amU h.2.1 a x.toNatClampNeg y)) 0 0) := (amWp_dec rfl dX6_loses_222 rfl).trans rfl
theorem wX6_loses_223 {ret F n h} {v0 v1 v2 v3 st x} : eX6_loses ret F (n + 1) 223 [v0, v1, v2, v3, .int x] (st) h 0 0 = (eX6_loses ret F n 226 [v0, v1, v2, amClr v3, .int (x + nI 1)] (st) h 0 0) := (amWp_dec rfl dX6_loses_223 rfl).trans rfl
theorem wX6_loses_226 {ret F n h} {v0 v1 v2 v3 v4 st} : eX6_loses ret F (n + 1) 226 [v0, v1, v2, v3, v4] (st) h 0 0 = (eX6_loses ret F n 161 [v0, v1, v2, v3, v4] (st) h 0 0) := (amWp_dec rfl dX6_loses_226 rfl).trans rfl
theorem wX6_loses_229 {ret F n h} {v0 v1 v3 v4 st x} : eX6_loses ret F (n + 1) 229 [v0, v1, .int x, v3, v4] (st) h 0 0 = (eX6_loses ret F n 230 [v0, v1, .int x, v3, v4] (.int x :: st) h 0 0) := (amWp_dec rfl dX6_loses_229 rfl).trans rfl
theorem wX6_loses_230 {ret F n h} {v0 v1 v2 v3 v4 x} : eX6_loses ret F (n + 1) 230 [v0, v1, v2, v3, v4] ([.int x]) h 0 0 = (ret (some (.int x)) h 0 0) := (amWp_dec rfl dX6_loses_230 rfl).trans (amTrue ⟨_, rfl, rfl⟩)
theorem evX6_loses (l : Launch) (G : amG) : ∀ pc S i sz, amLk rX6_loses pc = some S → decode cX6_loses pc = .ok (i, sz) → amSiteP pc G l yX6_loses.cls yX6_loses.name yX6_loses.desc (amRm 3 0 0) i sz S.1 S.2.1 S.2.2.1 S.2.2.2 := amLk_ok (by
  refine List.forall_mem_cons.mpr ⟨⟨_, _, dX6_loses_2, amSite.P (amSiteV (C := RX6) (metX6_isBook l G) rfl (by decide) (by decide) (lw_V q1423 q1425 qs46 q94 q1426) ⟨_, rfl, rfl⟩ ⟨rfl, by decide +kernel, by decide +kernel, by decide +kernel⟩)⟩, ?_⟩
  refine List.forall_mem_cons.mpr ⟨⟨_, _, dX6_loses_11, amSite.P (amSiteGet ⟨_, rfl, by decide, Or.inl q1295⟩)⟩, ?_⟩
  refine List.forall_mem_cons.mpr ⟨⟨_, _, dX6_loses_21, amSite.P (amSiteV (C := RX6) (metX6_placeOf l G) rfl (by decide) (by decide) (lw_V q1431 q1433 qs48 q94 q1434) ⟨_, rfl, rfl⟩ ⟨rfl, by decide +kernel, by decide +kernel, by decide +kernel⟩)⟩, ?_⟩
  refine List.forall_mem_cons.mpr ⟨⟨_, _, dX6_loses_35, amSite.P (amSiteGet ⟨_, rfl, by decide, Or.inl q1295⟩)⟩, ?_⟩
  refine List.forall_mem_cons.mpr ⟨⟨_, _, dX6_loses_44, amSite.P (amSiteGet ⟨_, rfl, by decide, Or.inl q1295⟩)⟩, ?_⟩
  refine List.forall_mem_cons.mpr ⟨⟨_, _, dX6_loses_72, amSite.P (amSiteGet ⟨_, rfl, by decide, Or.inl q1295⟩)⟩, ?_⟩
  refine List.forall_mem_cons.mpr ⟨⟨_, _, dX6_loses_81, amSite.P (amSiteGet ⟨_, rfl, by decide, Or.inl q1295⟩)⟩, ?_⟩
  refine List.forall_mem_cons.mpr ⟨⟨_, _, dX6_loses_94, amSite.P (amSiteGet ⟨_, rfl, by decide, Or.inl q1295⟩)⟩, ?_⟩
  refine List.forall_mem_cons.mpr ⟨⟨_, _, dX6_loses_103, amSite.P (amSiteGet ⟨_, rfl, by decide, Or.inl q1295⟩)⟩, ?_⟩
  refine List.forall_mem_cons.mpr ⟨⟨_, _, dX6_loses_122, amSite.P (amSiteGet ⟨_, rfl, by decide, Or.inl q1295⟩)⟩, ?_⟩
  refine List.forall_mem_cons.mpr ⟨⟨_, _, dX6_loses_129, amSite.P (amSiteGet ⟨_, rfl, by decide, Or.inl q1295⟩)⟩, ?_⟩
  refine List.forall_mem_cons.mpr ⟨⟨_, _, dX6_loses_139, amSite.P (amSiteGet ⟨_, rfl, by decide, Or.inl q1295⟩)⟩, ?_⟩
  refine List.forall_mem_cons.mpr ⟨⟨_, _, dX6_loses_149, amSite.P (amSiteGet ⟨_, rfl, by decide, Or.inl q1295⟩)⟩, ?_⟩
  refine List.forall_mem_cons.mpr ⟨⟨_, _, dX6_loses_168, amSite.P (amSiteGet ⟨_, rfl, by decide, Or.inl q1295⟩)⟩, ?_⟩
  refine List.forall_mem_cons.mpr ⟨⟨_, _, dX6_loses_179, amSite.P (amSiteGet ⟨_, rfl, by decide, Or.inl q1295⟩)⟩, ?_⟩
  refine List.forall_mem_cons.mpr ⟨⟨_, _, dX6_loses_200, amSite.P (amSiteGet ⟨_, rfl, by decide, Or.inl q1295⟩)⟩, ?_⟩
  refine List.forall_mem_cons.mpr ⟨⟨_, _, dX6_loses_209, amSite.P (amSiteGet ⟨_, rfl, by decide, Or.inl q1295⟩)⟩, ?_⟩
  refine List.forall_mem_cons.mpr ⟨⟨_, _, dX6_loses_219, amSite.P (amSiteS (metX6_without l G) rfl (by decide) (by decide) (lw_S q1545 q1546 q94 q1547) ⟨by decide +kernel, by decide +kernel, by decide +kernel⟩)⟩, ?_⟩
  exact fun _ h => absurd h List.not_mem_nil)
theorem goX6_loses {ret F} (hF : amCld cX6_loses kX6_loses (amLk rX6_loses) (some .int) 0 0 ret F) (n : Nat) {pc ls st h k z} (q : sX6_loses ret F n pc ls st h k z) : F pc ls st h k z := hF.1 n pc ls st h k z q
theorem metX6_loses (l : Launch) (G : amG) : amMet l G yX6_loses (ws_ yX6_loses cX6_loses 5 (some .int)) 3 0 0 tX6_loses := by
  refine amMet_of (cut := kX6_loses) (by decide +kernel) (evX6_loses l G) ?_
  intro as h K hT
  match as, hT with
  | [.ref a, .int k0], ⟨S, e, hA, hK⟩ =>
  refine ⟨Nat.le_of_ble_eq_true rfl, fun F hF => ?_⟩
  show F 0 [.ref a, .int k0, .retAddr 0, .retAddr 0, .retAddr 0] [] h 0 0
  obtain ⟨a, rfl⟩ : ∃ i : Nat, i = a := ⟨_, rfl⟩
  subst e
  have hR := hA.1
  have hS := hA.2.1
  have hO := hA.2.2
  have n7 := hS.n7
  have hn : h.2.1 125 0 = nI S.ord.length := hS.n
  by_cases b : ∃ j, j < S.ord.length ∧ k0 = nI j
  · obtain ⟨k, hk, rfl⟩ := b
    have ec : (nI k).toNatClampNeg = k := amCl_nI (by omega)
    have bT : (lN 0 ≤ (nI k).toInt64 ∧ (nI k).toInt64 ≤ (nI S.ord.length - nI 1).toInt64) := (isBk n7).mpr ⟨k, hk, rfl⟩
    rw [lseR, ec, if_pos ⟨hk, rfl⟩] at hK
    obtain ⟨i1, i2⟩ := idx_lt (hO.mem k hk)
    obtain ⟨n, hn1⟩ : ∃ n, S.ord.length = n + 1 := ⟨S.ord.length - 1, by omega⟩
    rw [hn1, Nat.add_sub_cancel] at hK
    generalize hat : S.ord.idxOf k = at' at i1 i2
    have eO : ∀ q, q < n → ((S.ord.eraseIdx at').getD q 0) = if q < at' then S.ord.getD q 0 else S.ord.getD (q + 1) 0 := fun q _ => era_getD q
    have eS : ∀ q, q < n → ((S.sets.eraseIdx k).getD q 0) = if q < k then S.sets.getD q 0 else S.sets.getD (q + 1) 0 := fun q _ => era_getD q
    have eA : ∀ q, q < n → ((S.ahead.eraseIdx k).getD q 0) = if q < k then S.ahead.getD q 0 else S.ahead.getD (q + 1) 0 := fun q _ => era_getD q
    have lO : (S.ord.eraseIdx at').length = n := by rw [List.length_eraseIdx_of_lt i1]; omega
    have lS : (S.sets.eraseIdx k).length = n := by rw [List.length_eraseIdx_of_lt (by rw [hS.ls]; exact hk), hS.ls]; omega
    have lA : (S.ahead.eraseIdx k).length = n := by rw [List.length_eraseIdx_of_lt (by rw [hS.la]; exact hk), hS.la]; omega
    have bO : ∀ q, q < n → (S.ord.eraseIdx at').getD q 0 < 7 := fun q hq => by
      have := hO.lt _ (List.mem_of_mem_eraseIdx (getD_mem (l := S.ord.eraseIdx at') (p := q) (by omega)))
      omega
    have bA : ∀ q, q < n → (S.ahead.eraseIdx k).getD q 0 < 128 := fun q hq => hO.a128 _ (List.mem_of_mem_eraseIdx (getD_mem (l := S.ahead.eraseIdx k) (p := q) (by omega)))
    -- the last loop
    have loopC : ∀ t j m, j + t = n → m 125 0 = nI n → lsI h.2.1 m n (fun q => if q < j then (if k < (S.ord.eraseIdx at').getD q 0 then (S.ord.eraseIdx at').getD q 0 - 1 else (S.ord.eraseIdx at').getD q 0) else (S.ord.eraseIdx at').getD q 0) (fun q => (S.sets.eraseIdx k).getD q 0) (fun q => if q < j then outN k ((S.ahead.eraseIdx k).getD q 0) else (S.ahead.eraseIdx k).getD q 0) → F 161 [.ref 124, .int (nI k), .int (nI n), .int (nI at'), .int (nI j)] [] (amSI h m) 0 0 := by
      intro t
      induction t with
      | zero =>
        intro j m e1 m0 hl
        have e : j = n := by omega
        subst e
        refine goX6_loses hF 60 ?_
        simp (disch := omega) only [wX6_loses_0, uX6_loses_0, wX6_loses_1, wX6_loses_2, wX6_loses_5, wX6_loses_8, wX6_loses_9, wX6_loses_10, wX6_loses_11, wX6_loses_14, wX6_loses_15, wX6_loses_16, wX6_loses_17, wX6_loses_18, wX6_loses_19, wX6_loses_20, wX6_loses_21, wX6_loses_24, wX6_loses_25, wX6_loses_26, wX6_loses_28, uX6_loses_28, wX6_loses_30, wX6_loses_31, wX6_loses_34, wX6_loses_35, wX6_loses_38, wX6_loses_40, wX6_loses_42, wX6_loses_43, wX6_loses_44, wX6_loses_47, wX6_loses_49, wX6_loses_51, wX6_loses_52, wX6_loses_53, wX6_loses_54, wX6_loses_55, wX6_loses_56, wX6_loses_59, wX6_loses_62, wX6_loses_63, wX6_loses_65, uX6_loses_65, wX6_loses_67, wX6_loses_68, wX6_loses_71, wX6_loses_72, wX6_loses_75, wX6_loses_77, wX6_loses_79, wX6_loses_80, wX6_loses_81, wX6_loses_84, wX6_loses_86, wX6_loses_88, wX6_loses_89, wX6_loses_90, wX6_loses_91, wX6_loses_92, wX6_loses_93, wX6_loses_94, wX6_loses_97, wX6_loses_99, wX6_loses_101, wX6_loses_102, wX6_loses_103, wX6_loses_106, wX6_loses_108, wX6_loses_110, wX6_loses_111, wX6_loses_112, wX6_loses_113, wX6_loses_114, wX6_loses_115, wX6_loses_118, wX6_loses_121, wX6_loses_122, wX6_loses_125, wX6_loses_126, wX6_loses_127, wX6_loses_128, wX6_loses_129, wX6_loses_132, wX6_loses_134, wX6_loses_135, wX6_loses_136, wX6_loses_137, wX6_loses_138, wX6_loses_139, wX6_loses_142, wX6_loses_144, wX6_loses_145, wX6_loses_146, wX6_loses_147, wX6_loses_148, wX6_loses_149, wX6_loses_152, wX6_loses_154, wX6_loses_155, wX6_loses_156, wX6_loses_157, wX6_loses_158, wX6_loses_159, wX6_loses_161, uX6_loses_161, wX6_loses_163, wX6_loses_164, wX6_loses_167, wX6_loses_168, wX6_loses_171, wX6_loses_173, wX6_loses_175, wX6_loses_176, wX6_loses_177, wX6_loses_178, wX6_loses_179, wX6_loses_182, wX6_loses_184, wX6_loses_186, wX6_loses_187, wX6_loses_188, wX6_loses_189, wX6_loses_192, wX6_loses_193, wX6_loses_196, wX6_loses_197, wX6_loses_198, wX6_loses_199, wX6_loses_200, wX6_loses_203, wX6_loses_205, wX6_loses_207, wX6_loses_208, wX6_loses_209, wX6_loses_212, wX6_loses_214, wX6_loses_216, wX6_loses_217, wX6_loses_218, wX6_loses_219, wX6_loses_222, wX6_loses_223, wX6_loses_226, wX6_loses_229, wX6_loses_230, amSI_1, amSI_2, amSI_3, amSI_s, amU_at, amIsR_ref, amIsR_null, amIsR_rf, amRf_some, amRf_none, amClr_int, amClr_ref, amClr_null, amClr_long, amClr_ra, amClr_rf, amFit_int, amFit_oref, amFit_aref, amFit_onull, amFit_anull, amOptSome, amOptNone, List.cons_append, List.nil_append, true_and, and_true, true_implies, not_true_eq_false, not_false_eq_true, false_implies, and_self, Nat.add_zero, Nat.zero_add, ne_eq, Prod.mk.injEq, amC01_0, amC01_1, amC01_nb, amNb0, amNb1, amTcpI_d, Nat.reduceLeDiff, Nat.reduceAdd, Nat.reduceSub, Nat.reduceEqDiff, Nat.le_refl, amN0le, hR.s, hR.r, amLeI, amLtI, amEqI, amLe0, amGt0, amEq0, amNotPosI, amGe0, amVI, amCl_nI, amAdd, amSub, amMul]
        refine amRet.of (by decide) (by decide) (hK m (hl.row hS (by omega) ?_ ?_ ?_ m0 rfl (fun q hq => ?_) (fun q hq => rfl) (fun q hq => ?_)) hl.fr)
        · show (lessL k (S.ord.eraseIdx (S.ord.idxOf k))).length = _
          rw [hat, lessL, List.length_map]; exact lO
        · exact lS
        · show ((S.ahead.eraseIdx k).map (outN k)).length = _
          rw [List.length_map]; exact lA
        · show (lessL k (S.ord.eraseIdx (S.ord.idxOf k))).getD q 0 = _
          rw [hat, lessL, map_getD (by omega)]
          exact (if_pos hq).symm
        · show ((S.ahead.eraseIdx k).map (outN k)).getD q 0 = _
          rw [map_getD (by omega)]
          exact (if_pos hq).symm
      | succ t ih =>
        intro j m e1 m0 hl
        have hj : j < n := by omega
        have qF : (n ≤ j) = False := eq_false (by omega)
        have mo := hl.1 j hj
        have ma := hl.2.2.1 j hj
        dsimp only at mo ma
        rw [if_neg (Nat.lt_irrefl j)] at mo ma
        have o7 := bO j hj
        have a7 := bA j hj
        have nx := fun v (ev : v = if k < (S.ord.eraseIdx at').getD j 0 then (S.ord.eraseIdx at').getD j 0 - 1 else (S.ord.eraseIdx at').getD j 0) => ih (j + 1) (amU (amU m 125 (6 + j) (nI v)) 125 (20 + j) (nI (outN k ((S.ahead.eraseIdx k).getD j 0)))) (by omega) (by
          simp (disch := omega) only [amU_at, amU_ne, amU_nj, amU_neR, up_ne, up_at, amSI_2]
          exact m0) (((hl.o (by omega) (by omega) v).a (by omega) (by omega) (outN k ((S.ahead.eraseIdx k).getD j 0))).wd (Nat.le_refl _) (fun q hq => by
          by_cases y : q = j
          · subst y
            rw [if_pos (by omega), if_pos rfl, ev]
          · rw [if_neg y]
            by_cases y2 : q < j
            · rw [if_pos (by omega), if_pos y2]
            · rw [if_neg (by omega), if_neg y2]) (fun q hq => rfl) (fun q hq => by
          by_cases y : q = j
          · subst y
            rw [if_pos (by omega), if_pos rfl]
          · rw [if_neg y]
            by_cases y2 : q < j
            · rw [if_pos (by omega), if_pos y2]
            · rw [if_neg (by omega), if_neg y2]))
        have go : ∀ v, v = (if k < (S.ord.eraseIdx at').getD j 0 then (S.ord.eraseIdx at').getD j 0 - 1 else (S.ord.eraseIdx at').getD j 0) → F 161 [.ref 124, .int (nI k), .int (nI n), .int (nI at'), .int (nI (j + 1))] [] (amSI h (amU (amU m 125 (6 + j) (nI v)) 125 (20 + j) (nI (outN k ((S.ahead.eraseIdx k).getD j 0))))) 0 0 := nx
        have wd : ∀ m, tX6_without [.int (nI ((S.ahead.eraseIdx k).getD j 0)), .int (nI k)] (amSI h m) = fun K => K (some (.int (nI (outN k ((S.ahead.eraseIdx k).getD j 0))))) (amSI h m) := by
          intro m
          funext K
          rw [tX6_without_d]
          apply propext
          constructor
          · rintro ⟨x, y, e1, e2, e3, e4, e5⟩
            have x1 := (nI_eq (by omega) (by omega)).mp e1
            have x2 := (nI_eq (by omega) (by omega)).mp e2
            rw [x1, x2]
            exact e5
          · intro z
            exact ⟨_, _, rfl, rfl, a7, by omega, z⟩
        by_cases c : k < (S.ord.eraseIdx at').getD j 0
        · have c' : ((S.ord.eraseIdx at').getD j 0 ≤ k) = False := eq_false (by omega)
          have nx := go ((S.ord.eraseIdx at').getD j 0 - 1) (by rw [if_pos c])
          refine goX6_loses hF 80 ?_
          simp (disch := omega) only [wX6_loses_0, uX6_loses_0, wX6_loses_1, wX6_loses_2, wX6_loses_5, wX6_loses_8, wX6_loses_9, wX6_loses_10, wX6_loses_11, wX6_loses_14, wX6_loses_15, wX6_loses_16, wX6_loses_17, wX6_loses_18, wX6_loses_19, wX6_loses_20, wX6_loses_21, wX6_loses_24, wX6_loses_25, wX6_loses_26, wX6_loses_28, uX6_loses_28, wX6_loses_30, wX6_loses_31, wX6_loses_34, wX6_loses_35, wX6_loses_38, wX6_loses_40, wX6_loses_42, wX6_loses_43, wX6_loses_44, wX6_loses_47, wX6_loses_49, wX6_loses_51, wX6_loses_52, wX6_loses_53, wX6_loses_54, wX6_loses_55, wX6_loses_56, wX6_loses_59, wX6_loses_62, wX6_loses_63, wX6_loses_65, uX6_loses_65, wX6_loses_67, wX6_loses_68, wX6_loses_71, wX6_loses_72, wX6_loses_75, wX6_loses_77, wX6_loses_79, wX6_loses_80, wX6_loses_81, wX6_loses_84, wX6_loses_86, wX6_loses_88, wX6_loses_89, wX6_loses_90, wX6_loses_91, wX6_loses_92, wX6_loses_93, wX6_loses_94, wX6_loses_97, wX6_loses_99, wX6_loses_101, wX6_loses_102, wX6_loses_103, wX6_loses_106, wX6_loses_108, wX6_loses_110, wX6_loses_111, wX6_loses_112, wX6_loses_113, wX6_loses_114, wX6_loses_115, wX6_loses_118, wX6_loses_121, wX6_loses_122, wX6_loses_125, wX6_loses_126, wX6_loses_127, wX6_loses_128, wX6_loses_129, wX6_loses_132, wX6_loses_134, wX6_loses_135, wX6_loses_136, wX6_loses_137, wX6_loses_138, wX6_loses_139, wX6_loses_142, wX6_loses_144, wX6_loses_145, wX6_loses_146, wX6_loses_147, wX6_loses_148, wX6_loses_149, wX6_loses_152, wX6_loses_154, wX6_loses_155, wX6_loses_156, wX6_loses_157, wX6_loses_158, wX6_loses_159, wX6_loses_161, uX6_loses_161, wX6_loses_163, wX6_loses_164, wX6_loses_167, wX6_loses_168, wX6_loses_171, wX6_loses_173, wX6_loses_175, wX6_loses_176, wX6_loses_177, wX6_loses_178, wX6_loses_179, wX6_loses_182, wX6_loses_184, wX6_loses_186, wX6_loses_187, wX6_loses_188, wX6_loses_189, wX6_loses_192, wX6_loses_193, wX6_loses_196, wX6_loses_197, wX6_loses_198, wX6_loses_199, wX6_loses_200, wX6_loses_203, wX6_loses_205, wX6_loses_207, wX6_loses_208, wX6_loses_209, wX6_loses_212, wX6_loses_214, wX6_loses_216, wX6_loses_217, wX6_loses_218, wX6_loses_219, wX6_loses_222, wX6_loses_223, wX6_loses_226, wX6_loses_229, wX6_loses_230, amSI_1, amSI_2, amSI_3, amSI_s, amU_at, amIsR_ref, amIsR_null, amIsR_rf, amRf_some, amRf_none, amClr_int, amClr_ref, amClr_null, amClr_long, amClr_ra, amClr_rf, amFit_int, amFit_oref, amFit_aref, amFit_onull, amFit_anull, amOptSome, amOptNone, List.cons_append, List.nil_append, true_and, and_true, true_implies, not_true_eq_false, not_false_eq_true, false_implies, and_self, Nat.add_zero, Nat.zero_add, ne_eq, Prod.mk.injEq, amC01_0, amC01_1, amC01_nb, amNb0, amNb1, amTcpI_d, Nat.reduceLeDiff, Nat.reduceAdd, Nat.reduceSub, Nat.reduceEqDiff, Nat.le_refl, amN0le, hR.s, hR.r, amLeI, amLtI, amEqI, amLe0, amGt0, amEq0, amNotPosI, amGe0, amVI, amCl_nI, amAdd, amSub, amMul, qF, mo, ma, c', wd, amU_nj]
          exact nx
        · have c' : ((S.ord.eraseIdx at').getD j 0 ≤ k) = True := eq_true (by omega)
          have nx := go ((S.ord.eraseIdx at').getD j 0) (by rw [if_neg c])
          refine goX6_loses hF 80 ?_
          simp (disch := omega) only [wX6_loses_0, uX6_loses_0, wX6_loses_1, wX6_loses_2, wX6_loses_5, wX6_loses_8, wX6_loses_9, wX6_loses_10, wX6_loses_11, wX6_loses_14, wX6_loses_15, wX6_loses_16, wX6_loses_17, wX6_loses_18, wX6_loses_19, wX6_loses_20, wX6_loses_21, wX6_loses_24, wX6_loses_25, wX6_loses_26, wX6_loses_28, uX6_loses_28, wX6_loses_30, wX6_loses_31, wX6_loses_34, wX6_loses_35, wX6_loses_38, wX6_loses_40, wX6_loses_42, wX6_loses_43, wX6_loses_44, wX6_loses_47, wX6_loses_49, wX6_loses_51, wX6_loses_52, wX6_loses_53, wX6_loses_54, wX6_loses_55, wX6_loses_56, wX6_loses_59, wX6_loses_62, wX6_loses_63, wX6_loses_65, uX6_loses_65, wX6_loses_67, wX6_loses_68, wX6_loses_71, wX6_loses_72, wX6_loses_75, wX6_loses_77, wX6_loses_79, wX6_loses_80, wX6_loses_81, wX6_loses_84, wX6_loses_86, wX6_loses_88, wX6_loses_89, wX6_loses_90, wX6_loses_91, wX6_loses_92, wX6_loses_93, wX6_loses_94, wX6_loses_97, wX6_loses_99, wX6_loses_101, wX6_loses_102, wX6_loses_103, wX6_loses_106, wX6_loses_108, wX6_loses_110, wX6_loses_111, wX6_loses_112, wX6_loses_113, wX6_loses_114, wX6_loses_115, wX6_loses_118, wX6_loses_121, wX6_loses_122, wX6_loses_125, wX6_loses_126, wX6_loses_127, wX6_loses_128, wX6_loses_129, wX6_loses_132, wX6_loses_134, wX6_loses_135, wX6_loses_136, wX6_loses_137, wX6_loses_138, wX6_loses_139, wX6_loses_142, wX6_loses_144, wX6_loses_145, wX6_loses_146, wX6_loses_147, wX6_loses_148, wX6_loses_149, wX6_loses_152, wX6_loses_154, wX6_loses_155, wX6_loses_156, wX6_loses_157, wX6_loses_158, wX6_loses_159, wX6_loses_161, uX6_loses_161, wX6_loses_163, wX6_loses_164, wX6_loses_167, wX6_loses_168, wX6_loses_171, wX6_loses_173, wX6_loses_175, wX6_loses_176, wX6_loses_177, wX6_loses_178, wX6_loses_179, wX6_loses_182, wX6_loses_184, wX6_loses_186, wX6_loses_187, wX6_loses_188, wX6_loses_189, wX6_loses_192, wX6_loses_193, wX6_loses_196, wX6_loses_197, wX6_loses_198, wX6_loses_199, wX6_loses_200, wX6_loses_203, wX6_loses_205, wX6_loses_207, wX6_loses_208, wX6_loses_209, wX6_loses_212, wX6_loses_214, wX6_loses_216, wX6_loses_217, wX6_loses_218, wX6_loses_219, wX6_loses_222, wX6_loses_223, wX6_loses_226, wX6_loses_229, wX6_loses_230, amSI_1, amSI_2, amSI_3, amSI_s, amU_at, amIsR_ref, amIsR_null, amIsR_rf, amRf_some, amRf_none, amClr_int, amClr_ref, amClr_null, amClr_long, amClr_ra, amClr_rf, amFit_int, amFit_oref, amFit_aref, amFit_onull, amFit_anull, amOptSome, amOptNone, List.cons_append, List.nil_append, true_and, and_true, true_implies, not_true_eq_false, not_false_eq_true, false_implies, and_self, Nat.add_zero, Nat.zero_add, ne_eq, Prod.mk.injEq, amC01_0, amC01_1, amC01_nb, amNb0, amNb1, amTcpI_d, Nat.reduceLeDiff, Nat.reduceAdd, Nat.reduceSub, Nat.reduceEqDiff, Nat.le_refl, amN0le, hR.s, hR.r, amLeI, amLtI, amEqI, amLe0, amGt0, amEq0, amNotPosI, amGe0, amVI, amCl_nI, amAdd, amSub, amMul, qF, mo, ma, c', wd, amU_nj, Nat.sub_zero]
          exact nx
    have loopB : ∀ t j m, j + t = n → k ≤ j → m 125 0 = nI (n + 1) → lsI h.2.1 m (n + 1) (fun q => if q < n then (S.ord.eraseIdx at').getD q 0 else S.ord.getD q 0) (fun q => if q < j then (S.sets.eraseIdx k).getD q 0 else S.sets.getD q 0) (fun q => if q < j then (S.ahead.eraseIdx k).getD q 0 else S.ahead.getD q 0) → F 65 [.ref 124, .int (nI k), .int (nI n), .int (nI at'), .int (nI j)] [] (amSI h m) 0 0 := by
      intro t
      induction t with
      | zero =>
        intro j m e1 hkj m0 hl
        have e : j = n := by omega
        subst e
        have nx := loopC j 0 (amU (amU (amU (amU m 125 0 (nI j)) 125 (6 + j) (nI 0)) 125 (13 + j) (nI 0)) 125 (20 + j) (nI 0)) (by omega) (by simp (disch := omega) only [amU_at, amU_ne, amU_nj, amU_neR, up_ne, up_at, amSI_2]) (((((hl.n (nI j)).o (by omega) (by omega) 0).s (by omega) (by omega) 0).a (by omega) (by omega) 0).wd (by omega) (fun q hq => by
          rw [if_neg (Nat.not_lt_zero q), if_neg (by omega), if_pos hq]) (fun q hq => by
          rw [if_neg (by omega), if_pos hq]) (fun q hq => by
          rw [if_neg (Nat.not_lt_zero q), if_neg (by omega), if_pos hq]))
        refine goX6_loses hF 80 ?_
        simp (disch := omega) only [wX6_loses_0, uX6_loses_0, wX6_loses_1, wX6_loses_2, wX6_loses_5, wX6_loses_8, wX6_loses_9, wX6_loses_10, wX6_loses_11, wX6_loses_14, wX6_loses_15, wX6_loses_16, wX6_loses_17, wX6_loses_18, wX6_loses_19, wX6_loses_20, wX6_loses_21, wX6_loses_24, wX6_loses_25, wX6_loses_26, wX6_loses_28, uX6_loses_28, wX6_loses_30, wX6_loses_31, wX6_loses_34, wX6_loses_35, wX6_loses_38, wX6_loses_40, wX6_loses_42, wX6_loses_43, wX6_loses_44, wX6_loses_47, wX6_loses_49, wX6_loses_51, wX6_loses_52, wX6_loses_53, wX6_loses_54, wX6_loses_55, wX6_loses_56, wX6_loses_59, wX6_loses_62, wX6_loses_63, wX6_loses_65, uX6_loses_65, wX6_loses_67, wX6_loses_68, wX6_loses_71, wX6_loses_72, wX6_loses_75, wX6_loses_77, wX6_loses_79, wX6_loses_80, wX6_loses_81, wX6_loses_84, wX6_loses_86, wX6_loses_88, wX6_loses_89, wX6_loses_90, wX6_loses_91, wX6_loses_92, wX6_loses_93, wX6_loses_94, wX6_loses_97, wX6_loses_99, wX6_loses_101, wX6_loses_102, wX6_loses_103, wX6_loses_106, wX6_loses_108, wX6_loses_110, wX6_loses_111, wX6_loses_112, wX6_loses_113, wX6_loses_114, wX6_loses_115, wX6_loses_118, wX6_loses_121, wX6_loses_122, wX6_loses_125, wX6_loses_126, wX6_loses_127, wX6_loses_128, wX6_loses_129, wX6_loses_132, wX6_loses_134, wX6_loses_135, wX6_loses_136, wX6_loses_137, wX6_loses_138, wX6_loses_139, wX6_loses_142, wX6_loses_144, wX6_loses_145, wX6_loses_146, wX6_loses_147, wX6_loses_148, wX6_loses_149, wX6_loses_152, wX6_loses_154, wX6_loses_155, wX6_loses_156, wX6_loses_157, wX6_loses_158, wX6_loses_159, wX6_loses_161, uX6_loses_161, wX6_loses_163, wX6_loses_164, wX6_loses_167, wX6_loses_168, wX6_loses_171, wX6_loses_173, wX6_loses_175, wX6_loses_176, wX6_loses_177, wX6_loses_178, wX6_loses_179, wX6_loses_182, wX6_loses_184, wX6_loses_186, wX6_loses_187, wX6_loses_188, wX6_loses_189, wX6_loses_192, wX6_loses_193, wX6_loses_196, wX6_loses_197, wX6_loses_198, wX6_loses_199, wX6_loses_200, wX6_loses_203, wX6_loses_205, wX6_loses_207, wX6_loses_208, wX6_loses_209, wX6_loses_212, wX6_loses_214, wX6_loses_216, wX6_loses_217, wX6_loses_218, wX6_loses_219, wX6_loses_222, wX6_loses_223, wX6_loses_226, wX6_loses_229, wX6_loses_230, amSI_1, amSI_2, amSI_3, amSI_s, amU_at, amIsR_ref, amIsR_null, amIsR_rf, amRf_some, amRf_none, amClr_int, amClr_ref, amClr_null, amClr_long, amClr_ra, amClr_rf, amFit_int, amFit_oref, amFit_aref, amFit_onull, amFit_anull, amOptSome, amOptNone, List.cons_append, List.nil_append, true_and, and_true, true_implies, not_true_eq_false, not_false_eq_true, false_implies, and_self, Nat.add_zero, Nat.zero_add, ne_eq, Prod.mk.injEq, amC01_0, amC01_1, amC01_nb, amNb0, amNb1, amTcpI_d, Nat.reduceLeDiff, Nat.reduceAdd, Nat.reduceSub, Nat.reduceEqDiff, Nat.le_refl, amN0le, hR.s, hR.r, amLeI, amLtI, amEqI, amLe0, amGt0, amEq0, amNotPosI, amGe0, amVI, amCl_nI, amAdd, amSub, amMul]
        exact nx
      | succ t ih =>
        intro j m e1 hkj m0 hl
        have qF : (n ≤ j) = False := eq_false (by omega)
        have ms := hl.2.1 (j + 1) (by omega)
        have ma := hl.2.2.1 (j + 1) (by omega)
        dsimp only at ms ma
        rw [if_neg (by omega)] at ms ma
        have nx := ih (j + 1) (amU (amU m 125 (13 + j) (nI (S.sets.getD (j + 1) 0))) 125 (20 + j) (nI (S.ahead.getD (j + 1) 0))) (by omega) (by omega) (by
          simp (disch := omega) only [amU_at, amU_ne, amU_nj, amU_neR, up_ne, up_at, amSI_2]
          exact m0) (((hl.s (by omega) (by omega) (S.sets.getD (j + 1) 0)).a (by omega) (by omega) (S.ahead.getD (j + 1) 0)).wd (Nat.le_refl _) (fun q hq => rfl) (fun q hq => by
          by_cases y : q = j
          · subst y
            rw [if_pos (by omega), if_pos rfl, eS q (by omega), if_neg (by omega)]
          · rw [if_neg y]
            by_cases y2 : q < j
            · rw [if_pos (by omega), if_pos y2]
            · rw [if_neg (by omega), if_neg y2]) (fun q hq => by
          by_cases y : q = j
          · subst y
            rw [if_pos (by omega), if_pos rfl, eA q (by omega), if_neg (by omega)]
          · rw [if_neg y]
            by_cases y2 : q < j
            · rw [if_pos (by omega), if_pos y2]
            · rw [if_neg (by omega), if_neg y2]))
        refine goX6_loses hF 80 ?_
        simp (disch := omega) only [wX6_loses_0, uX6_loses_0, wX6_loses_1, wX6_loses_2, wX6_loses_5, wX6_loses_8, wX6_loses_9, wX6_loses_10, wX6_loses_11, wX6_loses_14, wX6_loses_15, wX6_loses_16, wX6_loses_17, wX6_loses_18, wX6_loses_19, wX6_loses_20, wX6_loses_21, wX6_loses_24, wX6_loses_25, wX6_loses_26, wX6_loses_28, uX6_loses_28, wX6_loses_30, wX6_loses_31, wX6_loses_34, wX6_loses_35, wX6_loses_38, wX6_loses_40, wX6_loses_42, wX6_loses_43, wX6_loses_44, wX6_loses_47, wX6_loses_49, wX6_loses_51, wX6_loses_52, wX6_loses_53, wX6_loses_54, wX6_loses_55, wX6_loses_56, wX6_loses_59, wX6_loses_62, wX6_loses_63, wX6_loses_65, uX6_loses_65, wX6_loses_67, wX6_loses_68, wX6_loses_71, wX6_loses_72, wX6_loses_75, wX6_loses_77, wX6_loses_79, wX6_loses_80, wX6_loses_81, wX6_loses_84, wX6_loses_86, wX6_loses_88, wX6_loses_89, wX6_loses_90, wX6_loses_91, wX6_loses_92, wX6_loses_93, wX6_loses_94, wX6_loses_97, wX6_loses_99, wX6_loses_101, wX6_loses_102, wX6_loses_103, wX6_loses_106, wX6_loses_108, wX6_loses_110, wX6_loses_111, wX6_loses_112, wX6_loses_113, wX6_loses_114, wX6_loses_115, wX6_loses_118, wX6_loses_121, wX6_loses_122, wX6_loses_125, wX6_loses_126, wX6_loses_127, wX6_loses_128, wX6_loses_129, wX6_loses_132, wX6_loses_134, wX6_loses_135, wX6_loses_136, wX6_loses_137, wX6_loses_138, wX6_loses_139, wX6_loses_142, wX6_loses_144, wX6_loses_145, wX6_loses_146, wX6_loses_147, wX6_loses_148, wX6_loses_149, wX6_loses_152, wX6_loses_154, wX6_loses_155, wX6_loses_156, wX6_loses_157, wX6_loses_158, wX6_loses_159, wX6_loses_161, uX6_loses_161, wX6_loses_163, wX6_loses_164, wX6_loses_167, wX6_loses_168, wX6_loses_171, wX6_loses_173, wX6_loses_175, wX6_loses_176, wX6_loses_177, wX6_loses_178, wX6_loses_179, wX6_loses_182, wX6_loses_184, wX6_loses_186, wX6_loses_187, wX6_loses_188, wX6_loses_189, wX6_loses_192, wX6_loses_193, wX6_loses_196, wX6_loses_197, wX6_loses_198, wX6_loses_199, wX6_loses_200, wX6_loses_203, wX6_loses_205, wX6_loses_207, wX6_loses_208, wX6_loses_209, wX6_loses_212, wX6_loses_214, wX6_loses_216, wX6_loses_217, wX6_loses_218, wX6_loses_219, wX6_loses_222, wX6_loses_223, wX6_loses_226, wX6_loses_229, wX6_loses_230, amSI_1, amSI_2, amSI_3, amSI_s, amU_at, amIsR_ref, amIsR_null, amIsR_rf, amRf_some, amRf_none, amClr_int, amClr_ref, amClr_null, amClr_long, amClr_ra, amClr_rf, amFit_int, amFit_oref, amFit_aref, amFit_onull, amFit_anull, amOptSome, amOptNone, List.cons_append, List.nil_append, true_and, and_true, true_implies, not_true_eq_false, not_false_eq_true, false_implies, and_self, Nat.add_zero, Nat.zero_add, ne_eq, Prod.mk.injEq, amC01_0, amC01_1, amC01_nb, amNb0, amNb1, amTcpI_d, Nat.reduceLeDiff, Nat.reduceAdd, Nat.reduceSub, Nat.reduceEqDiff, Nat.le_refl, amN0le, hR.s, hR.r, amLeI, amLtI, amEqI, amLe0, amGt0, amEq0, amNotPosI, amGe0, amVI, amCl_nI, amAdd, amSub, amMul, qF, ms, ma, amU_nj, Nat.add_assoc]
        exact nx
    have loopA : ∀ t p m, p + t = n → at' ≤ p → m 125 0 = nI (n + 1) → lsI h.2.1 m (n + 1) (fun q => if q < p then (S.ord.eraseIdx at').getD q 0 else S.ord.getD q 0) (fun q => S.sets.getD q 0) (fun q => S.ahead.getD q 0) → F 28 [.ref 124, .int (nI k), .int (nI n), .int (nI at'), .int (nI p)] [] (amSI h m) 0 0 := by
      intro t
      induction t with
      | zero =>
        intro p m e1 hap m0 hl
        have e : p = n := by omega
        subst e
        have nx := loopB (p - k) k m (by omega) (Nat.le_refl _) m0 (hl.wd (Nat.le_refl _) (fun q hq => rfl) (fun q hq => by
          by_cases y : q < k
          · rw [if_pos y, eS q (by omega), if_pos y]
          · rw [if_neg y]) (fun q hq => by
          by_cases y : q < k
          · rw [if_pos y, eA q (by omega), if_pos y]
          · rw [if_neg y]))
        refine goX6_loses hF 80 ?_
        simp (disch := omega) only [wX6_loses_0, uX6_loses_0, wX6_loses_1, wX6_loses_2, wX6_loses_5, wX6_loses_8, wX6_loses_9, wX6_loses_10, wX6_loses_11, wX6_loses_14, wX6_loses_15, wX6_loses_16, wX6_loses_17, wX6_loses_18, wX6_loses_19, wX6_loses_20, wX6_loses_21, wX6_loses_24, wX6_loses_25, wX6_loses_26, wX6_loses_28, uX6_loses_28, wX6_loses_30, wX6_loses_31, wX6_loses_34, wX6_loses_35, wX6_loses_38, wX6_loses_40, wX6_loses_42, wX6_loses_43, wX6_loses_44, wX6_loses_47, wX6_loses_49, wX6_loses_51, wX6_loses_52, wX6_loses_53, wX6_loses_54, wX6_loses_55, wX6_loses_56, wX6_loses_59, wX6_loses_62, wX6_loses_63, wX6_loses_65, uX6_loses_65, wX6_loses_67, wX6_loses_68, wX6_loses_71, wX6_loses_72, wX6_loses_75, wX6_loses_77, wX6_loses_79, wX6_loses_80, wX6_loses_81, wX6_loses_84, wX6_loses_86, wX6_loses_88, wX6_loses_89, wX6_loses_90, wX6_loses_91, wX6_loses_92, wX6_loses_93, wX6_loses_94, wX6_loses_97, wX6_loses_99, wX6_loses_101, wX6_loses_102, wX6_loses_103, wX6_loses_106, wX6_loses_108, wX6_loses_110, wX6_loses_111, wX6_loses_112, wX6_loses_113, wX6_loses_114, wX6_loses_115, wX6_loses_118, wX6_loses_121, wX6_loses_122, wX6_loses_125, wX6_loses_126, wX6_loses_127, wX6_loses_128, wX6_loses_129, wX6_loses_132, wX6_loses_134, wX6_loses_135, wX6_loses_136, wX6_loses_137, wX6_loses_138, wX6_loses_139, wX6_loses_142, wX6_loses_144, wX6_loses_145, wX6_loses_146, wX6_loses_147, wX6_loses_148, wX6_loses_149, wX6_loses_152, wX6_loses_154, wX6_loses_155, wX6_loses_156, wX6_loses_157, wX6_loses_158, wX6_loses_159, wX6_loses_161, uX6_loses_161, wX6_loses_163, wX6_loses_164, wX6_loses_167, wX6_loses_168, wX6_loses_171, wX6_loses_173, wX6_loses_175, wX6_loses_176, wX6_loses_177, wX6_loses_178, wX6_loses_179, wX6_loses_182, wX6_loses_184, wX6_loses_186, wX6_loses_187, wX6_loses_188, wX6_loses_189, wX6_loses_192, wX6_loses_193, wX6_loses_196, wX6_loses_197, wX6_loses_198, wX6_loses_199, wX6_loses_200, wX6_loses_203, wX6_loses_205, wX6_loses_207, wX6_loses_208, wX6_loses_209, wX6_loses_212, wX6_loses_214, wX6_loses_216, wX6_loses_217, wX6_loses_218, wX6_loses_219, wX6_loses_222, wX6_loses_223, wX6_loses_226, wX6_loses_229, wX6_loses_230, amSI_1, amSI_2, amSI_3, amSI_s, amU_at, amIsR_ref, amIsR_null, amIsR_rf, amRf_some, amRf_none, amClr_int, amClr_ref, amClr_null, amClr_long, amClr_ra, amClr_rf, amFit_int, amFit_oref, amFit_aref, amFit_onull, amFit_anull, amOptSome, amOptNone, List.cons_append, List.nil_append, true_and, and_true, true_implies, not_true_eq_false, not_false_eq_true, false_implies, and_self, Nat.add_zero, Nat.zero_add, ne_eq, Prod.mk.injEq, amC01_0, amC01_1, amC01_nb, amNb0, amNb1, amTcpI_d, Nat.reduceLeDiff, Nat.reduceAdd, Nat.reduceSub, Nat.reduceEqDiff, Nat.le_refl, amN0le, hR.s, hR.r, amLeI, amLtI, amEqI, amLe0, amGt0, amEq0, amNotPosI, amGe0, amVI, amCl_nI, amAdd, amSub, amMul]
        exact nx
      | succ t ih =>
        intro p m e1 hap m0 hl
        have qF : (n ≤ p) = False := eq_false (by omega)
        have mo := hl.1 (p + 1) (by omega)
        dsimp only at mo
        rw [if_neg (by omega)] at mo
        have nx := ih (p + 1) (amU m 125 (6 + p) (nI (S.ord.getD (p + 1) 0))) (by omega) (by omega) (by
          simp (disch := omega) only [amU_at, amU_ne, amU_nj, amU_neR, up_ne, up_at, amSI_2]
          exact m0) ((hl.o (by omega) (by omega) (S.ord.getD (p + 1) 0)).wd (Nat.le_refl _) (fun q hq => by
          by_cases y : q = p
          · subst y
            rw [if_pos (by omega), if_pos rfl, eO q (by omega), if_neg (by omega)]
          · rw [if_neg y]
            by_cases y2 : q < p
            · rw [if_pos (by omega), if_pos y2]
            · rw [if_neg (by omega), if_neg y2]) (fun q hq => rfl) (fun q hq => rfl))
        refine goX6_loses hF 80 ?_
        simp (disch := omega) only [wX6_loses_0, uX6_loses_0, wX6_loses_1, wX6_loses_2, wX6_loses_5, wX6_loses_8, wX6_loses_9, wX6_loses_10, wX6_loses_11, wX6_loses_14, wX6_loses_15, wX6_loses_16, wX6_loses_17, wX6_loses_18, wX6_loses_19, wX6_loses_20, wX6_loses_21, wX6_loses_24, wX6_loses_25, wX6_loses_26, wX6_loses_28, uX6_loses_28, wX6_loses_30, wX6_loses_31, wX6_loses_34, wX6_loses_35, wX6_loses_38, wX6_loses_40, wX6_loses_42, wX6_loses_43, wX6_loses_44, wX6_loses_47, wX6_loses_49, wX6_loses_51, wX6_loses_52, wX6_loses_53, wX6_loses_54, wX6_loses_55, wX6_loses_56, wX6_loses_59, wX6_loses_62, wX6_loses_63, wX6_loses_65, uX6_loses_65, wX6_loses_67, wX6_loses_68, wX6_loses_71, wX6_loses_72, wX6_loses_75, wX6_loses_77, wX6_loses_79, wX6_loses_80, wX6_loses_81, wX6_loses_84, wX6_loses_86, wX6_loses_88, wX6_loses_89, wX6_loses_90, wX6_loses_91, wX6_loses_92, wX6_loses_93, wX6_loses_94, wX6_loses_97, wX6_loses_99, wX6_loses_101, wX6_loses_102, wX6_loses_103, wX6_loses_106, wX6_loses_108, wX6_loses_110, wX6_loses_111, wX6_loses_112, wX6_loses_113, wX6_loses_114, wX6_loses_115, wX6_loses_118, wX6_loses_121, wX6_loses_122, wX6_loses_125, wX6_loses_126, wX6_loses_127, wX6_loses_128, wX6_loses_129, wX6_loses_132, wX6_loses_134, wX6_loses_135, wX6_loses_136, wX6_loses_137, wX6_loses_138, wX6_loses_139, wX6_loses_142, wX6_loses_144, wX6_loses_145, wX6_loses_146, wX6_loses_147, wX6_loses_148, wX6_loses_149, wX6_loses_152, wX6_loses_154, wX6_loses_155, wX6_loses_156, wX6_loses_157, wX6_loses_158, wX6_loses_159, wX6_loses_161, uX6_loses_161, wX6_loses_163, wX6_loses_164, wX6_loses_167, wX6_loses_168, wX6_loses_171, wX6_loses_173, wX6_loses_175, wX6_loses_176, wX6_loses_177, wX6_loses_178, wX6_loses_179, wX6_loses_182, wX6_loses_184, wX6_loses_186, wX6_loses_187, wX6_loses_188, wX6_loses_189, wX6_loses_192, wX6_loses_193, wX6_loses_196, wX6_loses_197, wX6_loses_198, wX6_loses_199, wX6_loses_200, wX6_loses_203, wX6_loses_205, wX6_loses_207, wX6_loses_208, wX6_loses_209, wX6_loses_212, wX6_loses_214, wX6_loses_216, wX6_loses_217, wX6_loses_218, wX6_loses_219, wX6_loses_222, wX6_loses_223, wX6_loses_226, wX6_loses_229, wX6_loses_230, amSI_1, amSI_2, amSI_3, amSI_s, amU_at, amIsR_ref, amIsR_null, amIsR_rf, amRf_some, amRf_none, amClr_int, amClr_ref, amClr_null, amClr_long, amClr_ra, amClr_rf, amFit_int, amFit_oref, amFit_aref, amFit_onull, amFit_anull, amOptSome, amOptNone, List.cons_append, List.nil_append, true_and, and_true, true_implies, not_true_eq_false, not_false_eq_true, false_implies, and_self, Nat.add_zero, Nat.zero_add, ne_eq, Prod.mk.injEq, amC01_0, amC01_1, amC01_nb, amNb0, amNb1, amTcpI_d, Nat.reduceLeDiff, Nat.reduceAdd, Nat.reduceSub, Nat.reduceEqDiff, Nat.le_refl, amN0le, hR.s, hR.r, amLeI, amLtI, amEqI, amLe0, amGt0, amEq0, amNotPosI, amGe0, amVI, amCl_nI, amAdd, amSub, amMul, qF, mo, Nat.add_assoc]
        exact nx
    have hl0 := hS.lsI
    rw [hn1] at hl0 hn bT
    have nx := loopA (n - at') at' h.2.1 (by omega) (Nat.le_refl _) hn (hl0.wd (Nat.le_refl _) (fun q hq => by
      by_cases y : q < at'
      · rw [if_pos y, eO q (by omega), if_pos y]
      · rw [if_neg y]) (fun q hq => rfl) (fun q hq => rfl))
    have s1 : nI (n + 1) - nI 1 = nI n := by rw [amSub (by omega), Nat.add_sub_cancel]
    rw [s1] at bT
    refine goX6_loses hF 80 ?_
    simp (disch := omega) only [wX6_loses_0, uX6_loses_0, wX6_loses_1, wX6_loses_2, wX6_loses_5, wX6_loses_8, wX6_loses_9, wX6_loses_10, wX6_loses_11, wX6_loses_14, wX6_loses_15, wX6_loses_16, wX6_loses_17, wX6_loses_18, wX6_loses_19, wX6_loses_20, wX6_loses_21, wX6_loses_24, wX6_loses_25, wX6_loses_26, wX6_loses_28, uX6_loses_28, wX6_loses_30, wX6_loses_31, wX6_loses_34, wX6_loses_35, wX6_loses_38, wX6_loses_40, wX6_loses_42, wX6_loses_43, wX6_loses_44, wX6_loses_47, wX6_loses_49, wX6_loses_51, wX6_loses_52, wX6_loses_53, wX6_loses_54, wX6_loses_55, wX6_loses_56, wX6_loses_59, wX6_loses_62, wX6_loses_63, wX6_loses_65, uX6_loses_65, wX6_loses_67, wX6_loses_68, wX6_loses_71, wX6_loses_72, wX6_loses_75, wX6_loses_77, wX6_loses_79, wX6_loses_80, wX6_loses_81, wX6_loses_84, wX6_loses_86, wX6_loses_88, wX6_loses_89, wX6_loses_90, wX6_loses_91, wX6_loses_92, wX6_loses_93, wX6_loses_94, wX6_loses_97, wX6_loses_99, wX6_loses_101, wX6_loses_102, wX6_loses_103, wX6_loses_106, wX6_loses_108, wX6_loses_110, wX6_loses_111, wX6_loses_112, wX6_loses_113, wX6_loses_114, wX6_loses_115, wX6_loses_118, wX6_loses_121, wX6_loses_122, wX6_loses_125, wX6_loses_126, wX6_loses_127, wX6_loses_128, wX6_loses_129, wX6_loses_132, wX6_loses_134, wX6_loses_135, wX6_loses_136, wX6_loses_137, wX6_loses_138, wX6_loses_139, wX6_loses_142, wX6_loses_144, wX6_loses_145, wX6_loses_146, wX6_loses_147, wX6_loses_148, wX6_loses_149, wX6_loses_152, wX6_loses_154, wX6_loses_155, wX6_loses_156, wX6_loses_157, wX6_loses_158, wX6_loses_159, wX6_loses_161, uX6_loses_161, wX6_loses_163, wX6_loses_164, wX6_loses_167, wX6_loses_168, wX6_loses_171, wX6_loses_173, wX6_loses_175, wX6_loses_176, wX6_loses_177, wX6_loses_178, wX6_loses_179, wX6_loses_182, wX6_loses_184, wX6_loses_186, wX6_loses_187, wX6_loses_188, wX6_loses_189, wX6_loses_192, wX6_loses_193, wX6_loses_196, wX6_loses_197, wX6_loses_198, wX6_loses_199, wX6_loses_200, wX6_loses_203, wX6_loses_205, wX6_loses_207, wX6_loses_208, wX6_loses_209, wX6_loses_212, wX6_loses_214, wX6_loses_216, wX6_loses_217, wX6_loses_218, wX6_loses_219, wX6_loses_222, wX6_loses_223, wX6_loses_226, wX6_loses_229, wX6_loses_230, amSI_1, amSI_2, amSI_3, amSI_s, amU_at, amIsR_ref, amIsR_null, amIsR_rf, amRf_some, amRf_none, amClr_int, amClr_ref, amClr_null, amClr_long, amClr_ra, amClr_rf, amFit_int, amFit_oref, amFit_aref, amFit_onull, amFit_anull, amOptSome, amOptNone, List.cons_append, List.nil_append, true_and, and_true, true_implies, not_true_eq_false, not_false_eq_true, false_implies, and_self, Nat.add_zero, Nat.zero_add, ne_eq, Prod.mk.injEq, amC01_0, amC01_1, amC01_nb, amNb0, amNb1, amTcpI_d, Nat.reduceLeDiff, Nat.reduceAdd, Nat.reduceSub, Nat.reduceEqDiff, Nat.le_refl, amN0le, hR.s, hR.r, hR, amVI, amCl_nI, tX6_isBook_d, hn, s1, bT, tX6_placeOf_d]
    refine ⟨S, k, rfl, hk, hA, ?_⟩
    rw [hat]
    exact nx
  · have bF : ¬ (lN 0 ≤ k0.toInt64 ∧ k0.toInt64 ≤ (nI S.ord.length - nI 1).toInt64) := fun z => b ((isBk n7).mp z)
    rw [lseR, if_neg (fun z => b ⟨_, z.1, z.2⟩)] at hK
    have key := hK h.2.1 hS (maFr.rf _)
    refine goX6_loses hF 60 ?_
    simp (disch := omega) only [wX6_loses_0, uX6_loses_0, wX6_loses_1, wX6_loses_2, wX6_loses_5, wX6_loses_8, wX6_loses_9, wX6_loses_10, wX6_loses_11, wX6_loses_14, wX6_loses_15, wX6_loses_16, wX6_loses_17, wX6_loses_18, wX6_loses_19, wX6_loses_20, wX6_loses_21, wX6_loses_24, wX6_loses_25, wX6_loses_26, wX6_loses_28, uX6_loses_28, wX6_loses_30, wX6_loses_31, wX6_loses_34, wX6_loses_35, wX6_loses_38, wX6_loses_40, wX6_loses_42, wX6_loses_43, wX6_loses_44, wX6_loses_47, wX6_loses_49, wX6_loses_51, wX6_loses_52, wX6_loses_53, wX6_loses_54, wX6_loses_55, wX6_loses_56, wX6_loses_59, wX6_loses_62, wX6_loses_63, wX6_loses_65, uX6_loses_65, wX6_loses_67, wX6_loses_68, wX6_loses_71, wX6_loses_72, wX6_loses_75, wX6_loses_77, wX6_loses_79, wX6_loses_80, wX6_loses_81, wX6_loses_84, wX6_loses_86, wX6_loses_88, wX6_loses_89, wX6_loses_90, wX6_loses_91, wX6_loses_92, wX6_loses_93, wX6_loses_94, wX6_loses_97, wX6_loses_99, wX6_loses_101, wX6_loses_102, wX6_loses_103, wX6_loses_106, wX6_loses_108, wX6_loses_110, wX6_loses_111, wX6_loses_112, wX6_loses_113, wX6_loses_114, wX6_loses_115, wX6_loses_118, wX6_loses_121, wX6_loses_122, wX6_loses_125, wX6_loses_126, wX6_loses_127, wX6_loses_128, wX6_loses_129, wX6_loses_132, wX6_loses_134, wX6_loses_135, wX6_loses_136, wX6_loses_137, wX6_loses_138, wX6_loses_139, wX6_loses_142, wX6_loses_144, wX6_loses_145, wX6_loses_146, wX6_loses_147, wX6_loses_148, wX6_loses_149, wX6_loses_152, wX6_loses_154, wX6_loses_155, wX6_loses_156, wX6_loses_157, wX6_loses_158, wX6_loses_159, wX6_loses_161, uX6_loses_161, wX6_loses_163, wX6_loses_164, wX6_loses_167, wX6_loses_168, wX6_loses_171, wX6_loses_173, wX6_loses_175, wX6_loses_176, wX6_loses_177, wX6_loses_178, wX6_loses_179, wX6_loses_182, wX6_loses_184, wX6_loses_186, wX6_loses_187, wX6_loses_188, wX6_loses_189, wX6_loses_192, wX6_loses_193, wX6_loses_196, wX6_loses_197, wX6_loses_198, wX6_loses_199, wX6_loses_200, wX6_loses_203, wX6_loses_205, wX6_loses_207, wX6_loses_208, wX6_loses_209, wX6_loses_212, wX6_loses_214, wX6_loses_216, wX6_loses_217, wX6_loses_218, wX6_loses_219, wX6_loses_222, wX6_loses_223, wX6_loses_226, wX6_loses_229, wX6_loses_230, amSI_1, amSI_2, amSI_3, amSI_s, amU_at, amIsR_ref, amIsR_null, amIsR_rf, amRf_some, amRf_none, amClr_int, amClr_ref, amClr_null, amClr_long, amClr_ra, amClr_rf, amFit_int, amFit_oref, amFit_aref, amFit_onull, amFit_anull, amOptSome, amOptNone, List.cons_append, List.nil_append, true_and, and_true, true_implies, not_true_eq_false, not_false_eq_true, false_implies, and_self, Nat.add_zero, Nat.zero_add, ne_eq, Prod.mk.injEq, amC01_0, amC01_1, amC01_nb, amNb0, amNb1, amTcpI_d, Nat.reduceLeDiff, Nat.reduceAdd, Nat.reduceSub, Nat.reduceEqDiff, Nat.le_refl, amN0le, hR.s, hR.r, hR, amVI, amCl_nI, tX6_isBook_d, hn, bF]
    exact amRet.of (by decide) (by decide) key
theorem tX6_loses_d {a : Nat} {k0 : Int32} {h : amH} {K : Option Value → amH → Prop} : tX6_loses [.ref a, .int k0] h K = ∃ S : HS, a = (124 : Nat) ∧ mdSys h S ∧ ∀ m', RwIs m' 125 0 (lseR S k0).1 → maFr h.2.1 m' → K (some (.int (lseR S k0).2)) (amSI h m') := rfl
