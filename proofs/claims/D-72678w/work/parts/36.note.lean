/-! what may be undone -/
set_option maxRecDepth 100000
/-- ints and references changed, nothing else -/
def amSR (h : amH) (m : Nat → Nat → Int32) (r : Nat → Nat → Option Nat) : amH := (h.1, m, h.2.2.1, r, h.2.2.2.2)
theorem amSR_1 (h : amH) (m : Nat → Nat → Int32) (r : Nat → Nat → Option Nat) : (amSR h m r).1 = h.1 := rfl
theorem amSR_2 (h : amH) (m : Nat → Nat → Int32) (r : Nat → Nat → Option Nat) : (amSR h m r).2.1 = m := rfl
theorem amSR_r (h : amH) (m : Nat → Nat → Int32) (r : Nat → Nat → Option Nat) : (amSR h m r).2.2.2.1 = r := rfl
theorem amSR_I (h : amH) (m m2 : Nat → Nat → Int32) (r : Nat → Nat → Option Nat) : amSI (amSR h m r) m2 = amSR h m2 r := rfl
theorem amSI_R (h : amH) (m : Nat → Nat → Int32) : amSI h m = amSR h m h.2.2.2.1 := rfl
theorem amSR_rf (h : amH) : amSR h h.2.1 h.2.2.2.1 = h := rfl
theorem amTcpR_d {s d : Nat} {sp dp n : Int32} {h : amH} {K : Option Value → amH → Prop} : amTcpR [.ref s, .int sp, .ref d, .int dp, .int n] h K = ((h.1 s).1 = 7 ∧ (h.1 d).1 = 7 ∧ (∀ i y, i < n.toNatClampNeg → h.2.2.2.1 s (sp.toNatClampNeg + i) = some y → h.1 y = (0, 1)) ∧ ¬ sp < 0 ∧ ¬ dp < 0 ∧ ¬ n < 0 ∧ sp.toNatClampNeg + n.toNatClampNeg ≤ (h.1 s).2 ∧ dp.toNatClampNeg + n.toNatClampNeg ≤ (h.1 d).2 ∧ amN0 ≤ d ∧ K none (amSR h h.2.1 (va_up h.2.2.2.1 d (va_cpy (h.2.2.2.1 s) (h.2.2.2.1 d) sp.toNatClampNeg dp.toNatClampNeg n.toNatClampNeg)))) := rfl
def HS0 : HS := ([], [], [], 0, 0, 0, 0, 0)
/-- the cells of the houses that an undoing takes back -/
def pastC (i : Nat) : Prop := 61 ≤ i ∧ i < 121 ∧ (i - 61) % 10 < 5
/-- the houses of the past lie there -/
def psAt (h : amH) : Prop := ∀ j : Nat, j < 6 → hsAt h (61 + 10 * j) ∧ hsAt h (66 + 10 * j)
/-- the past: which house is where, what may be undone -/
def UnIs (m : Nat → Nat → Int32) (r : Nat → Nat → Option Nat) (U : List HS) : Prop := U.length ≤ 6 ∧ m 24 15 = nI U.length ∧ ∃ σ : Nat → Nat, (∀ k, k < 6 → σ k < 6) ∧ (∀ i j, i < 6 → j < 6 → σ i = σ j → i = j) ∧ (∀ k, k < 6 → r 41 k = some (61 + 10 * σ k)) ∧ ∀ k, k < U.length → HsIs m (61 + 10 * σ k) (U.getD k HS0)
def noteU (U : List HS) (S : HS) : List HS := (if U.length = 6 then U.tail else U) ++ [S]
theorem appS_getD {l : List HS} {x : HS} {i : Nat} : (l ++ [x]).getD i HS0 = if i < l.length then l.getD i HS0 else if i = l.length then x else HS0 := by
  by_cases h : i < l.length
  · rw [if_pos h, List.getD_eq_getElem?_getD, List.getElem?_append_left h, List.getD_eq_getElem?_getD]
  · rw [if_neg h]
    by_cases h2 : i = l.length
    · rw [if_pos h2, h2]; simp
    · rw [if_neg h2]; simp [List.getD_eq_getElem?_getD, List.getElem?_append_right (by omega : l.length ≤ i), show i - l.length ≠ 0 by omega]
def tX0_note : amT := fun as h K => match as with
  | [.ref a] => ∃ (S : HS) (U : List HS), a = (24 : Nat) ∧ rsAt h ∧ psAt h ∧ HsIs h.2.1 25 S ∧ UnIs h.2.1 h.2.2.2.1 U ∧ ∀ m' r', (∀ i : Nat, i ≠ 24 → ¬ pastC i → m' i = h.2.1 i) → (∀ j : Nat, j ≠ 15 → m' 24 j = h.2.1 24 j) → (∀ i : Nat, i ≠ 41 → r' i = h.2.2.2.1 i) → UnIs m' r' (noteU U S) → K none (amSR h m' r')
  | _ => False
/-! ReadingStages.note()V -/
def kX0_note : Nat → Bool := fun pc => pc == 47 || pc == 63
def rX0_note : List (Nat × amS) := [(1, 1, 0, 0, amTget 0 15), (10, 1, 0, 0, amTget 0 14), (17, 1, 0, 0, amTget 0 14), (22, 1, 0, 0, amTget 0 14), (27, 5, 0, 0, amTcpR), (31, 1, 0, 0, amTget 0 14), (36, 3, 0, 0, amTast 7 1), (39, 1, 0, 0, amTget 0 15), (44, 2, 0, 0, amTput 0 15), (48, 1, 0, 0, amTget 0 14), (52, 1, 0, 0, amTget 0 15), (57, 1, 0, 0, amTget 0 0), (60, 2, 0, 0, (amRecv 1 tX1_takeFrom)), (65, 1, 0, 0, amTget 0 15), (70, 2, 0, 0, amTput 0 15)]
def eX0_note (ret : Option Value → amH → Nat → Nat → Prop) (F : amX) : Nat → amX := amWp cX0_note kX0_note (amLk rX0_note) none 0 0 ret F
def sX0_note (ret : Option Value → amH → Nat → Nat → Prop) (F : amX) : Nat → amX := amWs cX0_note kX0_note (amLk rX0_note) none 0 0 ret F
theorem wX0_note_0 {ret F n h} {v0 v1 st} : eX0_note ret F (n + 1) 0 [v0, v1] (st) h 0 0 = (amIsR v0 ∧ eX0_note ret F n 1 [v0, v1] (v0 :: st) h 0 0) := (amWp_dec rfl dX0_note_0 rfl).trans rfl
theorem uX0_note_0 {ret F n h} {v0 v1 st} : sX0_note ret F n 0 [v0, v1] (st) h 0 0 = (amIsR v0 ∧ eX0_note ret F n 1 [v0, v1] (v0 :: st) h 0 0) := (amWs_dec dX0_note_0 rfl).trans rfl
theorem wX0_note_1 {ret F n h} {v0 v1 a} : eX0_note ret F (n + 1) 1 [v0, v1] (.ref a :: []) h 0 0 = (h.1 a = (0, 0) ∧ eX0_note ret F n 4 [v0, v1] (.int (h.2.1 a 15) :: []) h 0 0) := (amWp_dec rfl dX0_note_1 rfl).trans (amS4 (Nat.le_of_ble_eq_true rfl) (Nat.le_of_ble_eq_true rfl) (Nat.le_of_ble_eq_true rfl) (Nat.le_of_ble_eq_true rfl))
theorem wX0_note_4 {ret F n h} {v0 v1 st} : eX0_note ret F (n + 1) 4 [v0, v1] (st) h 0 0 = (eX0_note ret F n 6 [v0, v1] (.int (nI 6) :: st) h 0 0) := (amWp_dec rfl dX0_note_4 rfl).trans rfl
theorem wX0_note_6 {ret F n h} {v0 v1 st y x} : eX0_note ret F (n + 1) 6 [v0, v1] (.int y :: .int x :: st) h 0 0 = ((¬ x = y → eX0_note ret F n 47 [v0, v1] (st) h 0 0) ∧ (x = y → eX0_note ret F n 9 [v0, v1] (st) h 0 0)) := (amWp_dec rfl dX0_note_6 rfl).trans rfl
theorem wX0_note_9 {ret F n h} {v0 v1 st} : eX0_note ret F (n + 1) 9 [v0, v1] (st) h 0 0 = (amIsR v0 ∧ eX0_note ret F n 10 [v0, v1] (v0 :: st) h 0 0) := (amWp_dec rfl dX0_note_9 rfl).trans rfl
theorem wX0_note_10 {ret F n h} {v0 v1 a} : eX0_note ret F (n + 1) 10 [v0, v1] (.ref a :: []) h 0 0 = (h.1 a = (0, 0) ∧ eX0_note ret F n 13 [v0, v1] (va_rf (h.2.2.2.1 a 14) :: []) h 0 0) := (amWp_dec rfl dX0_note_10 rfl).trans (amS4 (Nat.le_of_ble_eq_true rfl) (Nat.le_of_ble_eq_true rfl) (Nat.le_of_ble_eq_true rfl) (Nat.le_of_ble_eq_true rfl))
theorem wX0_note_13 {ret F n h} {v0 v1 st} : eX0_note ret F (n + 1) 13 [v0, v1] (st) h 0 0 = (eX0_note ret F n 14 [v0, v1] (.int (nI 0) :: st) h 0 0) := (amWp_dec rfl dX0_note_13 rfl).trans rfl
theorem wX0_note_14 {ret F n h} {v0 v1 st x a} : eX0_note ret F (n + 1) 14 [v0, v1] (.int x :: .ref a :: st) h 0 0 = (6 ≤ (h.1 a).1 ∧ (h.1 a).1 ≤ 8 ∧ vp_in x (h.1 a).2 ∧ eX0_note ret F n 15 [v0, v1] (va_rf (h.2.2.2.1 a x.toNatClampNeg) :: st) h 0 0) := (amWp_dec rfl dX0_note_14 rfl).trans rfl
theorem wX0_note_15 {ret F n h} {v0 v1 w st} : eX0_note ret F (n + 1) 15 [v0, v1] (w :: st) h 0 0 = (amIsR w ∧ eX0_note ret F n 16 [amClr v0, w] (st) h 0 0) := (amWp_dec rfl dX0_note_15 rfl).trans (amTrue2 (Nat.le_of_ble_eq_true rfl))
theorem wX0_note_16 {ret F n h} {v0 v1 st} : eX0_note ret F (n + 1) 16 [v0, v1] (st) h 0 0 = (amIsR v0 ∧ eX0_note ret F n 17 [v0, v1] (v0 :: st) h 0 0) := (amWp_dec rfl dX0_note_16 rfl).trans rfl
theorem wX0_note_17 {ret F n h} {v0 v1 a} : eX0_note ret F (n + 1) 17 [v0, v1] (.ref a :: []) h 0 0 = (h.1 a = (0, 0) ∧ eX0_note ret F n 20 [v0, v1] (va_rf (h.2.2.2.1 a 14) :: []) h 0 0) := (amWp_dec rfl dX0_note_17 rfl).trans (amS4 (Nat.le_of_ble_eq_true rfl) (Nat.le_of_ble_eq_true rfl) (Nat.le_of_ble_eq_true rfl) (Nat.le_of_ble_eq_true rfl))
theorem wX0_note_20 {ret F n h} {v0 v1 st} : eX0_note ret F (n + 1) 20 [v0, v1] (st) h 0 0 = (eX0_note ret F n 21 [v0, v1] (.int (nI 1) :: st) h 0 0) := (amWp_dec rfl dX0_note_20 rfl).trans rfl
theorem wX0_note_21 {ret F n h} {v0 v1 st} : eX0_note ret F (n + 1) 21 [v0, v1] (st) h 0 0 = (amIsR v0 ∧ eX0_note ret F n 22 [v0, v1] (v0 :: st) h 0 0) := (amWp_dec rfl dX0_note_21 rfl).trans rfl
theorem wX0_note_22 {ret F n h} {v0 v1 r0 r1 a} : eX0_note ret F (n + 1) 22 [v0, v1] (.ref a :: r0 :: r1 :: []) h 0 0 = (h.1 a = (0, 0) ∧ eX0_note ret F n 25 [v0, v1] (va_rf (h.2.2.2.1 a 14) :: r0 :: r1 :: []) h 0 0) := (amWp_dec rfl dX0_note_22 rfl).trans (amS4 (Nat.le_of_ble_eq_true rfl) (Nat.le_of_ble_eq_true rfl) (Nat.le_of_ble_eq_true rfl) (Nat.le_of_ble_eq_true rfl))
theorem wX0_note_25 {ret F n h} {v0 v1 st} : eX0_note ret F (n + 1) 25 [v0, v1] (st) h 0 0 = (eX0_note ret F n 26 [v0, v1] (.int (nI 0) :: st) h 0 0) := (amWp_dec rfl dX0_note_25 rfl).trans rfl
theorem wX0_note_26 {ret F n h} {v0 v1 st} : eX0_note ret F (n + 1) 26 [v0, v1] (st) h 0 0 = (eX0_note ret F n 27 [v0, v1] (.int (nI 5) :: st) h 0 0) := (amWp_dec rfl dX0_note_26 rfl).trans rfl
theorem wX0_note_27 {ret F n h} {v0 v1 x4 x3 x2 x1 x0} : eX0_note ret F (n + 1) 27 [v0, v1] (.int x4 :: .int x3 :: .ref x2 :: .int x1 :: .ref x0 :: []) h 0 0 = (amTcpR [.ref x0, .int x1, .ref x2, .int x3, .int x4] h (fun v h => eX0_note ret F n 30 [v0, v1] (v.toList ++ ([])) h 0 0)) := (amWp_dec rfl dX0_note_27 rfl).trans (amS4 (Nat.le_of_ble_eq_true rfl) (Nat.le_of_ble_eq_true rfl) (Nat.le_of_ble_eq_true rfl) (Nat.le_of_ble_eq_true rfl))
theorem wX0_note_30 {ret F n h} {v0 v1 st} : eX0_note ret F (n + 1) 30 [v0, v1] (st) h 0 0 = (amIsR v0 ∧ eX0_note ret F n 31 [v0, v1] (v0 :: st) h 0 0) := (amWp_dec rfl dX0_note_30 rfl).trans rfl
theorem wX0_note_31 {ret F n h} {v0 v1 a} : eX0_note ret F (n + 1) 31 [v0, v1] (.ref a :: []) h 0 0 = (h.1 a = (0, 0) ∧ eX0_note ret F n 34 [v0, v1] (va_rf (h.2.2.2.1 a 14) :: []) h 0 0) := (amWp_dec rfl dX0_note_31 rfl).trans (amS4 (Nat.le_of_ble_eq_true rfl) (Nat.le_of_ble_eq_true rfl) (Nat.le_of_ble_eq_true rfl) (Nat.le_of_ble_eq_true rfl))
theorem wX0_note_34 {ret F n h} {v0 v1 st} : eX0_note ret F (n + 1) 34 [v0, v1] (st) h 0 0 = (eX0_note ret F n 35 [v0, v1] (.int (nI 5) :: st) h 0 0) := (amWp_dec rfl dX0_note_34 rfl).trans rfl
theorem wX0_note_35 {ret F n h} {v0 v1 st} : eX0_note ret F (n + 1) 35 [v0, v1] (st) h 0 0 = (amIsR v1 ∧ eX0_note ret F n 36 [v0, v1] (v1 :: st) h 0 0) := (amWp_dec rfl dX0_note_35 rfl).trans rfl
theorem wX0_note_36 {ret F n h} {v0 v1 b x a} : eX0_note ret F (n + 1) 36 [v0, v1] (.ref b :: .int x :: .ref a :: []) h 0 0 = (h.1 b = (0, 1) ∧ (h.1 a).1 = 7 ∧ vp_in x (h.1 a).2 ∧ amN0 ≤ a ∧ eX0_note ret F n 37 [v0, v1] ([]) (amWr h a x.toNatClampNeg (.ref b)) 0 0) := (amWp_dec rfl dX0_note_36 rfl).trans (amS4 (Nat.le_of_ble_eq_true rfl) (Nat.le_of_ble_eq_true rfl) (Nat.le_of_ble_eq_true rfl) (Nat.le_of_ble_eq_true rfl))
theorem wX0_note_37 {ret F n h} {v0 v1 st} : eX0_note ret F (n + 1) 37 [v0, v1] (st) h 0 0 = (amIsR v0 ∧ eX0_note ret F n 38 [v0, v1] (v0 :: st) h 0 0) := (amWp_dec rfl dX0_note_37 rfl).trans rfl
theorem wX0_note_38 {ret F n h} {v0 v1 st b} : eX0_note ret F (n + 1) 38 [v0, v1] (.ref b :: st) h 0 0 = (eX0_note ret F n 39 [v0, v1] (.ref b :: .ref b :: st) h 0 0) := (amWp_dec rfl dX0_note_38 rfl).trans (amTrue rfl)
theorem wX0_note_39 {ret F n h} {v0 v1 r0 a} : eX0_note ret F (n + 1) 39 [v0, v1] (.ref a :: r0 :: []) h 0 0 = (h.1 a = (0, 0) ∧ eX0_note ret F n 42 [v0, v1] (.int (h.2.1 a 15) :: r0 :: []) h 0 0) := (amWp_dec rfl dX0_note_39 rfl).trans (amS4 (Nat.le_of_ble_eq_true rfl) (Nat.le_of_ble_eq_true rfl) (Nat.le_of_ble_eq_true rfl) (Nat.le_of_ble_eq_true rfl))
theorem wX0_note_42 {ret F n h} {v0 v1 st} : eX0_note ret F (n + 1) 42 [v0, v1] (st) h 0 0 = (eX0_note ret F n 43 [v0, v1] (.int (nI 1) :: st) h 0 0) := (amWp_dec rfl dX0_note_42 rfl).trans rfl
theorem wX0_note_43 {ret F n h} {v0 v1 st y x} : eX0_note ret F (n + 1) 43 [v0, v1] (.int y :: .int x :: st) h 0 0 = (eX0_note ret F n 44 [v0, v1] (.int (x - y) :: st) h 0 0) := (amWp_dec rfl dX0_note_43 rfl).trans rfl
theorem wX0_note_44 {ret F n h} {v0 v1 x a} : eX0_note ret F (n + 1) 44 [v0, v1] (.int x :: .ref a :: []) h 0 0 = (h.1 a = (0, 0) ∧ amN0 ≤ a ∧ amFit .int (.int x) ∧ eX0_note ret F n 47 [v0, v1] ([]) (amSI h (amU h.2.1 a 15 x)) 0 0) := (amWp_dec rfl dX0_note_44 rfl).trans (amS4 (Nat.le_of_ble_eq_true rfl) (Nat.le_of_ble_eq_true rfl) (Nat.le_of_ble_eq_true rfl) (Nat.le_of_ble_eq_true rfl))
theorem wX0_note_47 {ret F n ls st h k z} : eX0_note ret F (n + 1) 47 ls st h k z = F 47 ls st h k z := amWp_cut rfl
theorem uX0_note_47 {ret F n h} {v0 v1 st} : sX0_note ret F n 47 [v0, v1] (st) h 0 0 = (amIsR v0 ∧ eX0_note ret F n 48 [v0, v1] (v0 :: st) h 0 0) := (amWs_dec dX0_note_47 rfl).trans rfl
theorem wX0_note_48 {ret F n h} {v0 v1 a} : eX0_note ret F (n + 1) 48 [v0, v1] (.ref a :: []) h 0 0 = (h.1 a = (0, 0) ∧ eX0_note ret F n 51 [v0, v1] (va_rf (h.2.2.2.1 a 14) :: []) h 0 0) := (amWp_dec rfl dX0_note_48 rfl).trans (amS4 (Nat.le_of_ble_eq_true rfl) (Nat.le_of_ble_eq_true rfl) (Nat.le_of_ble_eq_true rfl) (Nat.le_of_ble_eq_true rfl))
theorem wX0_note_51 {ret F n h} {v0 v1 st} : eX0_note ret F (n + 1) 51 [v0, v1] (st) h 0 0 = (amIsR v0 ∧ eX0_note ret F n 52 [v0, v1] (v0 :: st) h 0 0) := (amWp_dec rfl dX0_note_51 rfl).trans rfl
theorem wX0_note_52 {ret F n h} {v0 v1 r0 a} : eX0_note ret F (n + 1) 52 [v0, v1] (.ref a :: r0 :: []) h 0 0 = (h.1 a = (0, 0) ∧ eX0_note ret F n 55 [v0, v1] (.int (h.2.1 a 15) :: r0 :: []) h 0 0) := (amWp_dec rfl dX0_note_52 rfl).trans (amS4 (Nat.le_of_ble_eq_true rfl) (Nat.le_of_ble_eq_true rfl) (Nat.le_of_ble_eq_true rfl) (Nat.le_of_ble_eq_true rfl))
theorem wX0_note_55 {ret F n h} {v0 v1 st x a} : eX0_note ret F (n + 1) 55 [v0, v1] (.int x :: .ref a :: st) h 0 0 = (6 ≤ (h.1 a).1 ∧ (h.1 a).1 ≤ 8 ∧ vp_in x (h.1 a).2 ∧ eX0_note ret F n 56 [v0, v1] (va_rf (h.2.2.2.1 a x.toNatClampNeg) :: st) h 0 0) := (amWp_dec rfl dX0_note_55 rfl).trans rfl
theorem wX0_note_56 {ret F n h} {v0 v1 st} : eX0_note ret F (n + 1) 56 [v0, v1] (st) h 0 0 = (amIsR v0 ∧ eX0_note ret F n 57 [v0, v1] (v0 :: st) h 0 0) := (amWp_dec rfl dX0_note_56 rfl).trans rfl
theorem wX0_note_57 {ret F n h} {v0 v1 r0 a} : eX0_note ret F (n + 1) 57 [v0, v1] (.ref a :: r0 :: []) h 0 0 = (h.1 a = (0, 0) ∧ eX0_note ret F n 60 [v0, v1] (va_rf (h.2.2.2.1 a 0) :: r0 :: []) h 0 0) := (amWp_dec rfl dX0_note_57 rfl).trans (amS4 (Nat.le_of_ble_eq_true rfl) (Nat.le_of_ble_eq_true rfl) (Nat.le_of_ble_eq_true rfl) (Nat.le_of_ble_eq_true rfl))
theorem wX0_note_60 {ret F n h} {v0 v1 x1 x0} : eX0_note ret F (n + 1) 60 [v0, v1] (.ref x1 :: .ref x0 :: []) h 0 0 = (h.1 x0 = (0, 1) ∧ tX1_takeFrom [.ref x0, .ref x1] h (fun v h => eX0_note ret F n 63 [v0, v1] (v.toList ++ ([])) h 0 0)) := (amWp_dec rfl dX0_note_60 rfl).trans (amS4 (Nat.le_of_ble_eq_true rfl) (Nat.le_of_ble_eq_true rfl) (Nat.le_of_ble_eq_true rfl) (Nat.le_of_ble_eq_true rfl))
theorem wX0_note_63 {ret F n ls st h k z} : eX0_note ret F (n + 1) 63 ls st h k z = F 63 ls st h k z := amWp_cut rfl
theorem uX0_note_63 {ret F n h} {v0 v1 st} : sX0_note ret F n 63 [v0, v1] (st) h 0 0 = (amIsR v0 ∧ eX0_note ret F n 64 [v0, v1] (v0 :: st) h 0 0) := (amWs_dec dX0_note_63 rfl).trans rfl
theorem wX0_note_64 {ret F n h} {v0 v1 st b} : eX0_note ret F (n + 1) 64 [v0, v1] (.ref b :: st) h 0 0 = (eX0_note ret F n 65 [v0, v1] (.ref b :: .ref b :: st) h 0 0) := (amWp_dec rfl dX0_note_64 rfl).trans (amTrue rfl)
theorem wX0_note_65 {ret F n h} {v0 v1 r0 a} : eX0_note ret F (n + 1) 65 [v0, v1] (.ref a :: r0 :: []) h 0 0 = (h.1 a = (0, 0) ∧ eX0_note ret F n 68 [v0, v1] (.int (h.2.1 a 15) :: r0 :: []) h 0 0) := (amWp_dec rfl dX0_note_65 rfl).trans (amS4 (Nat.le_of_ble_eq_true rfl) (Nat.le_of_ble_eq_true rfl) (Nat.le_of_ble_eq_true rfl) (Nat.le_of_ble_eq_true rfl))
theorem wX0_note_68 {ret F n h} {v0 v1 st} : eX0_note ret F (n + 1) 68 [v0, v1] (st) h 0 0 = (eX0_note ret F n 69 [v0, v1] (.int (nI 1) :: st) h 0 0) := (amWp_dec rfl dX0_note_68 rfl).trans rfl
theorem wX0_note_69 {ret F n h} {v0 v1 st y x} : eX0_note ret F (n + 1) 69 [v0, v1] (.int y :: .int x :: st) h 0 0 = (eX0_note ret F n 70 [v0, v1] (.int (x + y) :: st) h 0 0) := (amWp_dec rfl dX0_note_69 rfl).trans rfl
theorem wX0_note_70 {ret F n h} {v0 v1 x a} : eX0_note ret F (n + 1) 70 [v0, v1] (.int x :: .ref a :: []) h 0 0 = (h.1 a = (0, 0) ∧ amN0 ≤ a ∧ amFit .int (.int x) ∧ eX0_note ret F n 73 [v0, v1] ([]) (amSI h (amU h.2.1 a 15 x)) 0 0) := (amWp_dec rfl dX0_note_70 rfl).trans (amS4 (Nat.le_of_ble_eq_true rfl) (Nat.le_of_ble_eq_true rfl) (Nat.le_of_ble_eq_true rfl) (Nat.le_of_ble_eq_true rfl))
theorem wX0_note_73 {ret F n h} {v0 v1} : eX0_note ret F (n + 1) 73 [v0, v1] ([]) h 0 0 = (ret none h 0 0) := (amWp_dec rfl dX0_note_73 rfl).trans (amTrue rfl)
theorem evX0_note (l : Launch) (G : amG) : ∀ pc S i sz, amLk rX0_note pc = some S → decode cX0_note pc = .ok (i, sz) → amSiteP pc G l yX0_note.cls yX0_note.name yX0_note.desc (amRm 3 0 0) i sz S.1 S.2.1 S.2.2.1 S.2.2.2 := amLk_ok (by
  refine List.forall_mem_cons.mpr ⟨⟨_, _, dX0_note_1, amSite.P (amSiteGet ⟨_, rfl, by decide, Or.inl q316⟩)⟩, ?_⟩
  refine List.forall_mem_cons.mpr ⟨⟨_, _, dX0_note_10, amSite.P (amSiteGet ⟨_, rfl, by decide, Or.inl q315⟩)⟩, ?_⟩
  refine List.forall_mem_cons.mpr ⟨⟨_, _, dX0_note_17, amSite.P (amSiteGet ⟨_, rfl, by decide, Or.inl q315⟩)⟩, ?_⟩
  refine List.forall_mem_cons.mpr ⟨⟨_, _, dX0_note_22, amSite.P (amSiteGet ⟨_, rfl, by decide, Or.inl q315⟩)⟩, ?_⟩
  refine List.forall_mem_cons.mpr ⟨⟨_, _, dX0_note_27, amSite.P (amSiteCpR rfl (by decide) q885 q473 q472 q95)⟩, ?_⟩
  refine List.forall_mem_cons.mpr ⟨⟨_, _, dX0_note_31, amSite.P (amSiteGet ⟨_, rfl, by decide, Or.inl q315⟩)⟩, ?_⟩
  refine List.forall_mem_cons.mpr ⟨⟨_, _, dX0_note_36, amSite.P (amSiteAst (by decide))⟩, ?_⟩
  refine List.forall_mem_cons.mpr ⟨⟨_, _, dX0_note_39, amSite.P (amSiteGet ⟨_, rfl, by decide, Or.inl q316⟩)⟩, ?_⟩
  refine List.forall_mem_cons.mpr ⟨⟨_, _, dX0_note_44, amSite.P (amSitePut ⟨_, rfl, by decide, Or.inl q316⟩ (fun q h => by cases h; rfl))⟩, ?_⟩
  refine List.forall_mem_cons.mpr ⟨⟨_, _, dX0_note_48, amSite.P (amSiteGet ⟨_, rfl, by decide, Or.inl q315⟩)⟩, ?_⟩
  refine List.forall_mem_cons.mpr ⟨⟨_, _, dX0_note_52, amSite.P (amSiteGet ⟨_, rfl, by decide, Or.inl q316⟩)⟩, ?_⟩
  refine List.forall_mem_cons.mpr ⟨⟨_, _, dX0_note_57, amSite.P (amSiteGet ⟨_, rfl, by decide, Or.inl q301⟩)⟩, ?_⟩
  refine List.forall_mem_cons.mpr ⟨⟨_, _, dX0_note_60, amSite.P (amSiteV (C := RX1) (metX1_takeFrom l G) rfl (by decide) (by decide) (lw_V q886 q887 q888 q87 q889) ⟨_, rfl, rfl⟩ ⟨rfl, by decide +kernel, by decide +kernel, by decide +kernel⟩)⟩, ?_⟩
  refine List.forall_mem_cons.mpr ⟨⟨_, _, dX0_note_65, amSite.P (amSiteGet ⟨_, rfl, by decide, Or.inl q316⟩)⟩, ?_⟩
  refine List.forall_mem_cons.mpr ⟨⟨_, _, dX0_note_70, amSite.P (amSitePut ⟨_, rfl, by decide, Or.inl q316⟩ (fun q h => by cases h; rfl))⟩, ?_⟩
  exact fun _ h => absurd h List.not_mem_nil)
theorem goX0_note {ret F} (hF : amCld cX0_note kX0_note (amLk rX0_note) none 0 0 ret F) (n : Nat) {pc ls st h k z} (q : sX0_note ret F n pc ls st h k z) : F pc ls st h k z := hF.1 n pc ls st h k z q
theorem metX0_note (l : Launch) (G : amG) : amMet l G yX0_note (ws_ yX0_note cX0_note 2 none) 3 0 0 tX0_note := by
  refine amMet_of (cut := kX0_note) (by decide +kernel) (evX0_note l G) ?_
  intro as h K hT
  match as, hT with
  | [.ref a], ⟨S, U, e1, hR, hP, hS, ⟨u6, hu, σ, s6, si, sr, sU⟩, hK⟩ =>
  refine ⟨Nat.le_of_ble_eq_true rfl, fun F hF => ?_⟩
  show F 0 [.ref a, .retAddr 0] [] h 0 0
  obtain ⟨a, rfl⟩ : ∃ i : Nat, i = a := ⟨_, rfl⟩
  subst e1
  have rest : ∀ (σ : Nat → Nat) (V : List HS) m r v1, (∀ i : Nat, i ≠ 24 → m i = h.2.1 i) → (∀ j : Nat, j ≠ 15 → m 24 j = h.2.1 24 j) → (∀ i : Nat, i ≠ 41 → r i = h.2.2.2.1 i) → V.length ≤ 5 → m 24 15 = nI V.length → (∀ k, k < 6 → σ k < 6) → (∀ i j, i < 6 → j < 6 → σ i = σ j → i = j) → (∀ k, k < 6 → r 41 k = some (61 + 10 * σ k)) → (∀ k, k < V.length → HsIs m (61 + 10 * σ k) (V.getD k HS0)) → noteU U S = V ++ [S] → F 47 [.ref 24, v1] [] (amSR h m r) 0 0 := by
    intro σ V m r v1 f1 f2 f3 v5 fu s6 si sr sV eq
    have r24 : r 24 = h.2.2.2.1 24 := f3 24 (by decide)
    have r0 := hR.r.2
    have rv := sr V.length (by omega)
    have sv := s6 V.length (by omega)
    have hR2 : rsAt (amSR h m r) := hR.mv (fun _ _ => rfl) (fun i _ h1 _ _ => f3 i h1)
    have hS2 : HsIs m 25 S := hS.kept (fun i h1 h2 => f1 i (by omega))
    have hat := (hP (σ V.length) sv).1
    have hat2 : hsAt (amSR h m r) (61 + 10 * σ V.length) := by
      obtain ⟨a1, a2, a3, a4, a5, a6, a7, a8, a9⟩ := hat
      refine ⟨a1, a2, a3, ?_, ?_, ?_, a7, a8, ?_⟩
      · show r _ 0 = _
        rw [f3 _ (by omega)]; exact a4
      · show r _ 1 = _
        rw [f3 _ (by omega)]; exact a5
      · show r _ 2 = _
        rw [f3 _ (by omega)]; exact a6
      · show r _ 0 = _
        rw [f3 _ (by omega)]; exact a9
    refine goX0_note hF 60 ?_
    simp (disch := omega) only [wX0_note_0, uX0_note_0, wX0_note_1, wX0_note_4, wX0_note_6, wX0_note_9, wX0_note_10, wX0_note_13, wX0_note_14, wX0_note_15, wX0_note_16, wX0_note_17, wX0_note_20, wX0_note_21, wX0_note_22, wX0_note_25, wX0_note_26, wX0_note_27, wX0_note_30, wX0_note_31, wX0_note_34, wX0_note_35, wX0_note_36, wX0_note_37, wX0_note_38, wX0_note_39, wX0_note_42, wX0_note_43, wX0_note_44, wX0_note_47, uX0_note_47, wX0_note_48, wX0_note_51, wX0_note_52, wX0_note_55, wX0_note_56, wX0_note_57, wX0_note_60, wX0_note_63, uX0_note_63, wX0_note_64, wX0_note_65, wX0_note_68, wX0_note_69, wX0_note_70, wX0_note_73, amSI_1, amSI_2, amSI_3, amSI_s, amU_at, amIsR_ref, amIsR_null, amIsR_rf, amRf_some, amRf_none, amClr_int, amClr_ref, amClr_null, amClr_long, amClr_ra, amClr_rf, amFit_int, amFit_oref, amFit_aref, amFit_onull, amFit_anull, amOptSome, amOptNone, List.cons_append, List.nil_append, true_and, and_true, true_implies, not_true_eq_false, not_false_eq_true, false_implies, and_self, Nat.add_zero, Nat.zero_add, ne_eq, Prod.mk.injEq, amC01_0, amC01_1, amC01_nb, amNb0, amNb1, amTcpI_d, Nat.reduceLeDiff, Nat.reduceAdd, Nat.reduceSub, Nat.reduceEqDiff, Nat.le_refl, amN0le, hR.s, hR.r, amSR_1, amSR_2, amSR_r, amSR_I, r24, fu, rv, hat.1, amLeI, amLtI, amEqI, amLe0, amGt0, amEq0, amNotPosI, amGe0, amVI, amCl_nI, amAdd, amSub, amMul]
    rw [tX1_takeFrom_d]
    refine ⟨S, hat2, hR2.now, show 24 ≤ _ by omega, Or.inr (by omega), hS2, fun m2 q1 q2 => ?_⟩
    have m24 : m2 24 15 = nI V.length := by rw [q2 24 (by omega)]; exact fu
    refine goX0_note hF 60 ?_
    simp (disch := omega) only [wX0_note_0, uX0_note_0, wX0_note_1, wX0_note_4, wX0_note_6, wX0_note_9, wX0_note_10, wX0_note_13, wX0_note_14, wX0_note_15, wX0_note_16, wX0_note_17, wX0_note_20, wX0_note_21, wX0_note_22, wX0_note_25, wX0_note_26, wX0_note_27, wX0_note_30, wX0_note_31, wX0_note_34, wX0_note_35, wX0_note_36, wX0_note_37, wX0_note_38, wX0_note_39, wX0_note_42, wX0_note_43, wX0_note_44, wX0_note_47, uX0_note_47, wX0_note_48, wX0_note_51, wX0_note_52, wX0_note_55, wX0_note_56, wX0_note_57, wX0_note_60, wX0_note_63, uX0_note_63, wX0_note_64, wX0_note_65, wX0_note_68, wX0_note_69, wX0_note_70, wX0_note_73, amSI_1, amSI_2, amSI_3, amSI_s, amU_at, amIsR_ref, amIsR_null, amIsR_rf, amRf_some, amRf_none, amClr_int, amClr_ref, amClr_null, amClr_long, amClr_ra, amClr_rf, amFit_int, amFit_oref, amFit_aref, amFit_onull, amFit_anull, amOptSome, amOptNone, List.cons_append, List.nil_append, true_and, and_true, true_implies, not_true_eq_false, not_false_eq_true, false_implies, and_self, Nat.add_zero, Nat.zero_add, ne_eq, Prod.mk.injEq, amC01_0, amC01_1, amC01_nb, amNb0, amNb1, amTcpI_d, Nat.reduceLeDiff, Nat.reduceAdd, Nat.reduceSub, Nat.reduceEqDiff, Nat.le_refl, amN0le, hR.s, hR.r, amSR_1, amSR_2, amSR_r, amSR_I, r24, m24, amLeI, amLtI, amEqI, amLe0, amGt0, amEq0, amNotPosI, amGe0, amVI, amCl_nI, amAdd, amSub, amMul]
    have inj : ∀ k, k < V.length → σ k ≠ σ V.length := fun k hk e => by have := si k V.length (by omega) (by omega) e; omega
    refine amRet.of (by decide) (by decide) (hK _ r (fun i h1 h2 => ?_) (fun j hj => ?_) f3 ?_)
    · simp (disch := omega) only [amU_at, amU_ne, amU_nj, amU_neR, up_ne, up_at, amSI_2]
      rw [← f1 i h1]
      refine q2 i ?_
      unfold pastC at h2
      omega
    · simp (disch := omega) only [amU_at, amU_ne, amU_nj, amU_neR, up_ne, up_at, amSI_2]
      rw [q2 24 (by omega)]
      exact f2 j hj
    · rw [eq]
      refine ⟨by simp; omega, ?_, σ, s6, si, sr, fun k hk => ?_⟩
      · simp (disch := omega) only [amU_at, amU_ne, amU_nj, amU_neR, up_ne, up_at, amSI_2]
        simp
      · rw [List.length_append, List.length_singleton] at hk
        rw [appS_getD]
        by_cases e : k = V.length
        · subst e
          rw [if_neg (Nat.lt_irrefl _), if_pos rfl]
          exact q1.kept (fun i i1 i2 => by simp (disch := omega) only [amU_at, amU_ne, amU_nj, amU_neR, up_ne, up_at, amSI_2])
        · rw [if_pos (by omega)]
          refine (sV k (by omega)).kept (fun i i1 i2 => ?_)
          have := inj k (by omega)
          simp (disch := omega) only [amU_at, amU_ne, amU_nj, amU_neR, up_ne, up_at, amSI_2]
          refine q2 i ?_
          omega
  by_cases e6 : U.length = 6
  · have r0 := sr 0 (by decide)
    have s0 := s6 0 (by decide)
    have hat := (hP (σ 0) s0).1
    have ho : ∀ (i : Nat) (y : Addr), i < 5 → h.2.2.2.1 41 (1 + i) = some y → h.1 y = (0, 1) := by
      intro i y hi hy
      rw [sr (1 + i) (by omega)] at hy
      cases hy
      exact (hP _ (s6 (1 + i) (by omega))).1.1
    have eq : noteU U S = U.tail ++ [S] := by rw [noteU, if_pos e6]
    have lt : U.tail.length = 5 := by rw [List.length_tail, e6]
    have fin := rest (fun k => if k < 5 then σ (k + 1) else σ 0) U.tail (amU h.2.1 24 15 (nI 5)) (va_up (va_up h.2.2.2.1 41 (va_cpy (h.2.2.2.1 41) (h.2.2.2.1 41) 1 0 5)) 41 (va_up (va_cpy (h.2.2.2.1 41) (h.2.2.2.1 41) 1 0 5) 5 (some (61 + 10 * σ 0)))) (.ref (61 + 10 * σ 0)) (fun i hi => by simp (disch := omega) only [amU_at, amU_ne, amU_nj, amU_neR, up_ne, up_at, amSI_2]) (fun j hj => by simp (disch := omega) only [amU_at, amU_ne, amU_nj, amU_neR, up_ne, up_at, amSI_2]) (fun i hi => by simp [va_up, hi]) (by omega) (by rw [lt]; simp (disch := omega) only [amU_at, amU_ne, amU_nj, amU_neR, up_ne, up_at, amSI_2]) (fun k hk => by
      show (if k < 5 then σ (k + 1) else σ 0) < 6
      split
      · exact s6 _ (by omega)
      · exact s0) (fun i j hi hj e => ?_) (fun k hk => ?_) (fun k hk => ?_) eq
    · rw [e6] at hu
      refine goX0_note hF 60 ?_
      simp (disch := omega) only [wX0_note_0, uX0_note_0, wX0_note_1, wX0_note_4, wX0_note_6, wX0_note_9, wX0_note_10, wX0_note_13, wX0_note_14, wX0_note_15, wX0_note_16, wX0_note_17, wX0_note_20, wX0_note_21, wX0_note_22, wX0_note_25, wX0_note_26, wX0_note_27, wX0_note_30, wX0_note_31, wX0_note_34, wX0_note_35, wX0_note_36, wX0_note_37, wX0_note_38, wX0_note_39, wX0_note_42, wX0_note_43, wX0_note_44, wX0_note_47, uX0_note_47, wX0_note_48, wX0_note_51, wX0_note_52, wX0_note_55, wX0_note_56, wX0_note_57, wX0_note_60, wX0_note_63, uX0_note_63, wX0_note_64, wX0_note_65, wX0_note_68, wX0_note_69, wX0_note_70, wX0_note_73, amSI_1, amSI_2, amSI_3, amSI_s, amU_at, amIsR_ref, amIsR_null, amIsR_rf, amRf_some, amRf_none, amClr_int, amClr_ref, amClr_null, amClr_long, amClr_ra, amClr_rf, amFit_int, amFit_oref, amFit_aref, amFit_onull, amFit_anull, amOptSome, amOptNone, List.cons_append, List.nil_append, true_and, and_true, true_implies, not_true_eq_false, not_false_eq_true, false_implies, and_self, Nat.add_zero, Nat.zero_add, ne_eq, Prod.mk.injEq, amC01_0, amC01_1, amC01_nb, amNb0, amNb1, amTcpI_d, Nat.reduceLeDiff, Nat.reduceAdd, Nat.reduceSub, Nat.reduceEqDiff, Nat.le_refl, amN0le, hR.s, hR.r, hu, r0, amLeI, amLtI, amEqI, amLe0, amGt0, amEq0, amNotPosI, amGe0, amVI, amCl_nI, amAdd, amSub, amMul]
      rw [amTcpR_d]
      have e5 : (nI 5).toNatClampNeg = 5 := by decide
      have e1 : (nI 1).toNatClampNeg = 1 := by decide
      have e0 : (nI 0).toNatClampNeg = 0 := by decide
      rw [e5, e1, e0]
      refine ⟨by rw [hR.s.2.2.2.2.2.2.2.2.2.2.2.2.2.2.2.2.2.1], by rw [hR.s.2.2.2.2.2.2.2.2.2.2.2.2.2.2.2.2.2.1], ho, by decide, by decide, by decide, by rw [hR.s.2.2.2.2.2.2.2.2.2.2.2.2.2.2.2.2.2.1]; decide, by rw [hR.s.2.2.2.2.2.2.2.2.2.2.2.2.2.2.2.2.2.1]; decide, by decide, ?_⟩
      have r24 : va_up h.2.2.2.1 41 (va_cpy (h.2.2.2.1 41) (h.2.2.2.1 41) 1 0 5) 24 = h.2.2.2.1 24 := by simp [va_up]
      have r41 : va_up h.2.2.2.1 41 (va_cpy (h.2.2.2.1 41) (h.2.2.2.1 41) 1 0 5) 41 = va_cpy (h.2.2.2.1 41) (h.2.2.2.1 41) 1 0 5 := by simp [va_up]
      generalize va_up h.2.2.2.1 41 (va_cpy (h.2.2.2.1 41) (h.2.2.2.1 41) 1 0 5) = r1 at r24 r41 fin
      generalize va_cpy (h.2.2.2.1 41) (h.2.2.2.1 41) 1 0 5 = r2 at r41 fin
      have r24b : va_up r1 41 (va_up r2 5 (some (61 + 10 * σ 0))) 24 = h.2.2.2.1 24 := by rw [← r24]; simp [va_up]
      have w9 : ∀ b : Nat, amWr (amSR h h.2.1 r1) 41 5 (.ref b) = amSR h h.2.1 (va_up r1 41 (va_up r2 5 (some b))) := fun b => by rw [← r41]; rfl
      simp (disch := omega) only [wX0_note_0, uX0_note_0, wX0_note_1, wX0_note_4, wX0_note_6, wX0_note_9, wX0_note_10, wX0_note_13, wX0_note_14, wX0_note_15, wX0_note_16, wX0_note_17, wX0_note_20, wX0_note_21, wX0_note_22, wX0_note_25, wX0_note_26, wX0_note_27, wX0_note_30, wX0_note_31, wX0_note_34, wX0_note_35, wX0_note_36, wX0_note_37, wX0_note_38, wX0_note_39, wX0_note_42, wX0_note_43, wX0_note_44, wX0_note_47, uX0_note_47, wX0_note_48, wX0_note_51, wX0_note_52, wX0_note_55, wX0_note_56, wX0_note_57, wX0_note_60, wX0_note_63, uX0_note_63, wX0_note_64, wX0_note_65, wX0_note_68, wX0_note_69, wX0_note_70, wX0_note_73, amSI_1, amSI_2, amSI_3, amSI_s, amU_at, amIsR_ref, amIsR_null, amIsR_rf, amRf_some, amRf_none, amClr_int, amClr_ref, amClr_null, amClr_long, amClr_ra, amClr_rf, amFit_int, amFit_oref, amFit_aref, amFit_onull, amFit_anull, amOptSome, amOptNone, List.cons_append, List.nil_append, true_and, and_true, true_implies, not_true_eq_false, not_false_eq_true, false_implies, and_self, Nat.add_zero, Nat.zero_add, ne_eq, Prod.mk.injEq, amC01_0, amC01_1, amC01_nb, amNb0, amNb1, amTcpI_d, Nat.reduceLeDiff, Nat.reduceAdd, Nat.reduceSub, Nat.reduceEqDiff, Nat.le_refl, amN0le, hR.s, hR.r, amSR_1, amSR_2, amSR_r, amSR_I, hu, r0, amLeI, amLtI, amEqI, amLe0, amGt0, amEq0, amNotPosI, amGe0, amVI, amCl_nI, amAdd, amSub, amMul, hat.1, r24, r24b, w9]
      exact fin
    · have e : (if i < 5 then σ (i + 1) else σ 0) = (if j < 5 then σ (j + 1) else σ 0) := e
      by_cases i5 : i < 5
      · rw [if_pos i5] at e
        by_cases j5 : j < 5
        · rw [if_pos j5] at e
          have := si _ _ (by omega) (by omega) e
          omega
        · rw [if_neg j5] at e
          have := si _ _ (by omega) (by omega) e
          omega
      · rw [if_neg i5] at e
        by_cases j5 : j < 5
        · rw [if_pos j5] at e
          have := si _ _ (by omega) (by omega) e
          omega
        · omega
    · show _ = some (61 + 10 * (if k < 5 then σ (k + 1) else σ 0))
      by_cases k5 : k < 5
      · rw [if_pos k5, ← sr (k + 1) (by omega)]
        simp only [va_up, if_pos, if_neg (show k ≠ 5 by omega)]
        rw [pk_cpy_in (by omega) (by omega), show 1 + (k - 0) = k + 1 by omega]
      · have : k = 5 := by omega
        subst this
        simp [va_up]
    · show HsIs _ (61 + 10 * (if k < 5 then σ (k + 1) else σ 0)) _
      rw [lt] at hk
      rw [if_pos hk]
      have := sU (k + 1) (by omega)
      have e : U.tail.getD k HS0 = U.getD (k + 1) HS0 := by
        cases U with
        | nil => simp at e6
        | cons x t => rfl
      rw [e]
      exact this.kept (fun i i1 i2 => by simp (disch := omega) only [amU_at, amU_ne, amU_nj, amU_neR, up_ne, up_at, amSI_2])
  · have eq : noteU U S = U ++ [S] := by rw [noteU, if_neg e6]
    have := rest σ U h.2.1 h.2.2.2.1 (.retAddr 0) (fun _ _ => rfl) (fun _ _ => rfl) (fun _ _ => rfl) (by omega) hu s6 si sr sU eq
    refine goX0_note hF 60 ?_
    simp (disch := omega) only [wX0_note_0, uX0_note_0, wX0_note_1, wX0_note_4, wX0_note_6, wX0_note_9, wX0_note_10, wX0_note_13, wX0_note_14, wX0_note_15, wX0_note_16, wX0_note_17, wX0_note_20, wX0_note_21, wX0_note_22, wX0_note_25, wX0_note_26, wX0_note_27, wX0_note_30, wX0_note_31, wX0_note_34, wX0_note_35, wX0_note_36, wX0_note_37, wX0_note_38, wX0_note_39, wX0_note_42, wX0_note_43, wX0_note_44, wX0_note_47, uX0_note_47, wX0_note_48, wX0_note_51, wX0_note_52, wX0_note_55, wX0_note_56, wX0_note_57, wX0_note_60, wX0_note_63, uX0_note_63, wX0_note_64, wX0_note_65, wX0_note_68, wX0_note_69, wX0_note_70, wX0_note_73, amSI_1, amSI_2, amSI_3, amSI_s, amU_at, amIsR_ref, amIsR_null, amIsR_rf, amRf_some, amRf_none, amClr_int, amClr_ref, amClr_null, amClr_long, amClr_ra, amClr_rf, amFit_int, amFit_oref, amFit_aref, amFit_onull, amFit_anull, amOptSome, amOptNone, List.cons_append, List.nil_append, true_and, and_true, true_implies, not_true_eq_false, not_false_eq_true, false_implies, and_self, Nat.add_zero, Nat.zero_add, ne_eq, Prod.mk.injEq, amC01_0, amC01_1, amC01_nb, amNb0, amNb1, amTcpI_d, Nat.reduceLeDiff, Nat.reduceAdd, Nat.reduceSub, Nat.reduceEqDiff, Nat.le_refl, amN0le, hR.s, hR.r, hu, amLeI, amLtI, amEqI, amLe0, amGt0, amEq0, amNotPosI, amGe0, amVI, amCl_nI, amAdd, amSub, amMul]
    exact ⟨fun _ => this, fun z => absurd z e6⟩
theorem tX0_note_d {a : Nat} {h : amH} {K : Option Value → amH → Prop} : tX0_note [.ref a] h K = ∃ (S : HS) (U : List HS), a = (24 : Nat) ∧ rsAt h ∧ psAt h ∧ HsIs h.2.1 25 S ∧ UnIs h.2.1 h.2.2.2.1 U ∧ ∀ m' r', (∀ i : Nat, i ≠ 24 → ¬ pastC i → m' i = h.2.1 i) → (∀ j : Nat, j ≠ 15 → m' 24 j = h.2.1 24 j) → (∀ i : Nat, i ≠ 41 → r' i = h.2.2.2.1 i) → UnIs m' r' (noteU U S) → K none (amSR h m' r') := rfl
