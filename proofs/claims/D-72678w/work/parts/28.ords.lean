/-! all orders -/
set_option maxRecDepth 100000
/-- a sheet's row shows numbers from one place on -/
def rowAt (h : amH) (r i : Nat) (vs : List Nat) : Prop := 143 ≤ r ∧ i + vs.length ≤ (h.1 r).2 ∧ ((((h.1 r).1 = 1 ∨ (h.1 r).1 = 2 ∨ (h.1 r).1 = 4) ∧ ∀ p : Nat, p < vs.length → h.2.1 r (i + p) = nI (vs.getD p 0)) ∨ ((h.1 r).1 = 5 ∧ ∀ p : Nat, p < vs.length → h.2.2.1 r (i + p) = lN (vs.getD p 0)))
def seenHit (S : HS) (vs : List Nat) (l : List Nat) : Bool := (S.rd l 0).2.map (fun q => pop q.1) == vs
def tX0_lambda_seen_6 : amT := fun as h K => match as with
  | [.ref a, .ref s, .int i0, .ref b] => ∃ (S : HS) (l vs : List Nat) (c i r : Nat), a = (24 : Nat) ∧ b = (37 : Nat) ∧ rdPre h S 37 l ∧ h.2.1 24 12 = nI c ∧ h.1 s = (0, 5) ∧ h.2.2.2.1 s 0 = some r ∧ i0 = nI i ∧ i < 2147483000 ∧ rowAt h r i vs ∧ vs.length = l.length ∧ (∀ x ∈ vs, x < 2147483648) ∧ ∀ m', asFr h.2.1 m' → (∀ j : Nat, j ≠ 12 → m' 24 j = h.2.1 24 j) → m' 24 12 = nI (if seenHit S vs l then c + 1 else c) → K (some (.int (nI 1))) (amSI h m')
  | _ => False
/-- a question asked: one of four lambdas -/
def tAsk : amT := fun as h K => match as with
  | [.ref r, .ref b] => (h.1 r = (23, 1) ∧ ∃ a, h.2.2.2.1 r 0 = some a ∧ tX0_lambda_layBest_3 [.ref a, .ref b] h K) ∨ (h.1 r = (24, 2) ∧ ∃ a, h.2.2.2.1 r 0 = some a ∧ tX0_lambda_many_4 [.ref a, .int (h.2.1 r 1), .ref b] h K) ∨ (h.1 r = (25, 2) ∧ ∃ a, h.2.2.2.1 r 0 = some a ∧ tX0_lambda_fit_5 [.ref a, .int (h.2.1 r 1), .ref b] h K) ∨ (h.1 r = (26, 3) ∧ ∃ a s, h.2.2.2.1 r 0 = some a ∧ h.2.2.2.1 r 1 = some s ∧ tX0_lambda_seen_6 [.ref a, .ref s, .int (h.2.1 r 2), .ref b] h K)
  | _ => False
/-- OPEN: the call through a lambda's object -/
theorem amSiteAsk {G : amG} {l : Launch} {nm : String} {R : Room} {dR mcR msR : Nat} (hRm : R = amRm dR mcR msR) (hd : 12 ≤ dR) : amSite G l "ReadingStages" nm R (.invokeinterface 147 2) 5 2 0 0 tAsk := sorry
/-- the orders of a set of books, the least number first -/
def ords : Nat → Nat → Nat → List (List Nat)
  | 0, _, _ => [[]]
  | t + 1, n, left => if left = 0 then [[]] else (List.range n).flatMap (fun k => if left.testBit k then (ords t n (andn left (2 ^ k))).map (k :: ·) else [])
/-- asked one by one, as long as it goes on -/
def runA {σ : Type} (f : List Nat → σ → σ × Bool) : List (List Nat) → σ → σ × Bool
  | [], s => (s, true)
  | l :: t, s => if (f l s).2 then runA f t (f l s).1 else ((f l s).1, false)
theorem runA_app {σ : Type} (f : List Nat → σ → σ × Bool) : ∀ (x y : List (List Nat)) (s : σ), runA f (x ++ y) s = if (runA f x s).2 then runA f y (runA f x s).1 else runA f x s
  | [], y, s => rfl
  | l :: t, y, s => by
    rw [List.cons_append, runA, runA]
    by_cases h : (f l s).2 = true
    · rw [if_pos h, if_pos h, runA_app f t y]
    · rw [if_neg h, if_neg h]; simp
theorem runA_map {σ : Type} (f : List Nat → σ → σ × Bool) (g : List Nat → List Nat) : ∀ (x : List (List Nat)) (s : σ), runA f (x.map g) s = runA (fun l s => f (g l) s) x s
  | [], s => rfl
  | l :: t, s => by rw [List.map_cons, runA, runA, runA_map f g t]
/-- how many books a set has -/
def cnt7 (x : Nat) : Nat := cntB (fun i => x.testBit i) 7
theorem cnt7_0 : ∀ x, x < 128 → cnt7 x = 0 → x = 0 := by decide +kernel
theorem cnt7_z : cnt7 0 = 0 := by decide
theorem cnt7_out : ∀ x, x < 128 → ∀ k, k < 7 → x.testBit k = true → cnt7 (andn x (2 ^ k)) + 1 = cnt7 x := by decide +kernel
theorem ords_0 (t n : Nat) : ords t n 0 = [[]] := by cases t <;> rfl
/-- the heap beside the board that is being laid -/
def mdFr (m m' : Nat → Nat → Int32) : Prop := ∀ i : Nat, i ≠ 37 → i ≠ 38 → m' i = m i
def tEO : Nat → amT
  | 0 => fun _ _ _ => False
  | t + 1 => fun as h K => match as with
    | [.ref a, .int left0, .ref r] => ∃ (σ : Type) (f : List Nat → σ → σ × Bool) (I : σ → (Nat → Nat → Int32) → Prop) (n left : Nat) (pre : List Nat) (s : σ), a = (24 : Nat) ∧ left0 = nI left ∧ left < 2 ^ n ∧ n ≤ 7 ∧ cnt7 left ≤ t ∧ pre.length + cnt7 left = n ∧ rsAt h ∧ (∀ x ∈ pre, x < n) ∧ bdIs h.2.1 37 pre ∧ I s h.2.1 ∧ (∀ s m, I s m → m 28 1 = nI n) ∧ (∀ s m m', I s m → mdFr m m' → I s m') ∧ (∀ l s m K, (∀ x ∈ l, x < n) → l.length = n → I s m → bdIs m 37 l → (∀ m', I (f l s).1 m' → bdIs m' 37 l → K (some (.int (amC01 ((f l s).2 = true)))) (amSI h m')) → tAsk [.ref r, .ref 37] (amSI h m) K) ∧ ∀ m', I (runA (fun l s => f (pre ++ l) s) (ords t n left) s).1 m' → bdIs m' 37 pre → K (some (.int (amC01 ((runA (fun l s => f (pre ++ l) s) (ords t n left) s).2 = true)))) (amSI h m')
    | _ => False
/-! ReadingStages.eachOrder(ILReadingStages$Ask;)Z -/
def kX0_eachOrder : Nat → Bool := fun pc => pc == 14 || pc == 20 || pc == 61 || pc == 74 || pc == 91
def rX0_eachOrder (t : Nat) : List (Nat × amS) := [(6, 1, 0, 0, amTget 0 8), (9, 2, 0, 0, tAsk), (23, 1, 0, 0, amTget 0 0), (26, 1, 0, 0, (amRecv 1 tX1_many)), (39, 2, 0, 0, tX0_has), (46, 1, 0, 0, amTget 0 8), (50, 1, 0, 0, amTget 0 8), (53, 1, 0, 0, amTget 2 1), (58, 3, 0, 0, (amRecv 2 tX2_put)), (71, 3, 0, 0, (amRecv 0 (tEO t))), (76, 1, 0, 0, amTget 0 8), (80, 1, 0, 0, amTget 0 8), (83, 1, 0, 0, amTget 2 1), (88, 2, 0, 0, (amRecv 2 tX2_take))]
def eX0_eachOrder (t : Nat) (ret : Option Value → amH → Nat → Nat → Prop) (F : amX) : Nat → amX := amWp cX0_eachOrder kX0_eachOrder (amLk (rX0_eachOrder t)) (some .boolean) 0 0 ret F
def sX0_eachOrder (t : Nat) (ret : Option Value → amH → Nat → Nat → Prop) (F : amX) : Nat → amX := amWs cX0_eachOrder kX0_eachOrder (amLk (rX0_eachOrder t)) (some .boolean) 0 0 ret F
theorem wX0_eachOrder_0 {ret F n h} {t : Nat} {v0 v2 v3 v4 st x} : eX0_eachOrder t ret F (n + 1) 0 [v0, .int x, v2, v3, v4] (st) h 0 0 = (eX0_eachOrder t ret F n 1 [v0, .int x, v2, v3, v4] (.int x :: st) h 0 0) := (amWp_dec rfl dX0_eachOrder_0 rfl).trans rfl
theorem uX0_eachOrder_0 {ret F n h} {t : Nat} {v0 v2 v3 v4 st x} : sX0_eachOrder t ret F n 0 [v0, .int x, v2, v3, v4] (st) h 0 0 = (eX0_eachOrder t ret F n 1 [v0, .int x, v2, v3, v4] (.int x :: st) h 0 0) := (amWs_dec dX0_eachOrder_0 rfl).trans rfl
theorem wX0_eachOrder_1 {ret F n h} {t : Nat} {v0 v1 v2 v3 v4 st x} : eX0_eachOrder t ret F (n + 1) 1 [v0, v1, v2, v3, v4] (.int x :: st) h 0 0 = ((¬ x = 0 → eX0_eachOrder t ret F n 15 [v0, v1, v2, v3, v4] (st) h 0 0) ∧ (x = 0 → eX0_eachOrder t ret F n 4 [v0, v1, v2, v3, v4] (st) h 0 0)) := (amWp_dec rfl dX0_eachOrder_1 rfl).trans rfl
theorem wX0_eachOrder_4 {ret F n h} {t : Nat} {v0 v1 v2 v3 v4 st} : eX0_eachOrder t ret F (n + 1) 4 [v0, v1, v2, v3, v4] (st) h 0 0 = (amIsR v2 ∧ eX0_eachOrder t ret F n 5 [v0, v1, v2, v3, v4] (v2 :: st) h 0 0) := (amWp_dec rfl dX0_eachOrder_4 rfl).trans rfl
theorem wX0_eachOrder_5 {ret F n h} {t : Nat} {v0 v1 v2 v3 v4 st} : eX0_eachOrder t ret F (n + 1) 5 [v0, v1, v2, v3, v4] (st) h 0 0 = (amIsR v0 ∧ eX0_eachOrder t ret F n 6 [v0, v1, v2, v3, v4] (v0 :: st) h 0 0) := (amWp_dec rfl dX0_eachOrder_5 rfl).trans rfl
theorem wX0_eachOrder_6 {ret F n h} {t : Nat} {v0 v1 v2 v3 v4 r0 a} : eX0_eachOrder t ret F (n + 1) 6 [v0, v1, v2, v3, v4] (.ref a :: r0 :: []) h 0 0 = (h.1 a = (0, 0) ∧ eX0_eachOrder t ret F n 9 [v0, v1, v2, v3, v4] (va_rf (h.2.2.2.1 a 8) :: r0 :: []) h 0 0) := (amWp_dec rfl dX0_eachOrder_6 rfl).trans (amS4 (Nat.le_of_ble_eq_true rfl) (Nat.le_of_ble_eq_true rfl) (Nat.le_of_ble_eq_true rfl) (Nat.le_of_ble_eq_true rfl))
theorem wX0_eachOrder_9 {ret F n h} {t : Nat} {v0 v1 v2 v3 v4 x1 x0} : eX0_eachOrder t ret F (n + 1) 9 [v0, v1, v2, v3, v4] (.ref x1 :: .ref x0 :: []) h 0 0 = (tAsk [.ref x0, .ref x1] h (fun v h => eX0_eachOrder t ret F n 14 [v0, v1, v2, v3, v4] (v.toList ++ ([])) h 0 0)) := (amWp_dec rfl dX0_eachOrder_9 rfl).trans (amS4 (Nat.le_of_ble_eq_true rfl) (Nat.le_of_ble_eq_true rfl) (Nat.le_of_ble_eq_true rfl) (Nat.le_of_ble_eq_true rfl))
theorem wX0_eachOrder_14 {ret F n ls st h k z} {t : Nat} : eX0_eachOrder t ret F (n + 1) 14 ls st h k z = F 14 ls st h k z := amWp_cut rfl
theorem uX0_eachOrder_14 {ret F n h} {t : Nat} {v0 v1 v2 v3 v4 x} : sX0_eachOrder t ret F n 14 [v0, v1, v2, v3, v4] ([.int x]) h 0 0 = (narrow .boolean (.int x) = .int x ∧ ret (some (.int x)) h 0 0) := (amWs_dec dX0_eachOrder_14 rfl).trans (amRetTy)
theorem wX0_eachOrder_15 {ret F n h} {t : Nat} {v0 v1 v2 v3 v4 st} : eX0_eachOrder t ret F (n + 1) 15 [v0, v1, v2, v3, v4] (st) h 0 0 = (eX0_eachOrder t ret F n 16 [v0, v1, v2, v3, v4] (.int (nI 1) :: st) h 0 0) := (amWp_dec rfl dX0_eachOrder_15 rfl).trans rfl
theorem wX0_eachOrder_16 {ret F n h} {t : Nat} {v0 v1 v2 v3 v4 st x} : eX0_eachOrder t ret F (n + 1) 16 [v0, v1, v2, v3, v4] (.int x :: st) h 0 0 = (eX0_eachOrder t ret F n 17 [v0, v1, amClr v2, .int x, v4] (st) h 0 0) := (amWp_dec rfl dX0_eachOrder_16 rfl).trans (amTrue (Nat.le_of_ble_eq_true rfl))
theorem wX0_eachOrder_17 {ret F n h} {t : Nat} {v0 v1 v2 v3 v4 st} : eX0_eachOrder t ret F (n + 1) 17 [v0, v1, v2, v3, v4] (st) h 0 0 = (eX0_eachOrder t ret F n 18 [v0, v1, v2, v3, v4] (.int (nI 0) :: st) h 0 0) := (amWp_dec rfl dX0_eachOrder_17 rfl).trans rfl
theorem wX0_eachOrder_18 {ret F n h} {t : Nat} {v0 v1 v2 v3 v4 st x} : eX0_eachOrder t ret F (n + 1) 18 [v0, v1, v2, v3, v4] (.int x :: st) h 0 0 = (eX0_eachOrder t ret F n 20 [v0, v1, v2, amClr v3, .int x] (st) h 0 0) := (amWp_dec rfl dX0_eachOrder_18 rfl).trans (amTrue (Nat.le_of_ble_eq_true rfl))
theorem wX0_eachOrder_20 {ret F n ls st h k z} {t : Nat} : eX0_eachOrder t ret F (n + 1) 20 ls st h k z = F 20 ls st h k z := amWp_cut rfl
theorem uX0_eachOrder_20 {ret F n h} {t : Nat} {v0 v1 v2 v3 st x} : sX0_eachOrder t ret F n 20 [v0, v1, v2, v3, .int x] (st) h 0 0 = (eX0_eachOrder t ret F n 22 [v0, v1, v2, v3, .int x] (.int x :: st) h 0 0) := (amWs_dec dX0_eachOrder_20 rfl).trans rfl
theorem wX0_eachOrder_22 {ret F n h} {t : Nat} {v0 v1 v2 v3 v4 st} : eX0_eachOrder t ret F (n + 1) 22 [v0, v1, v2, v3, v4] (st) h 0 0 = (amIsR v0 ∧ eX0_eachOrder t ret F n 23 [v0, v1, v2, v3, v4] (v0 :: st) h 0 0) := (amWp_dec rfl dX0_eachOrder_22 rfl).trans rfl
theorem wX0_eachOrder_23 {ret F n h} {t : Nat} {v0 v1 v2 v3 v4 r0 a} : eX0_eachOrder t ret F (n + 1) 23 [v0, v1, v2, v3, v4] (.ref a :: r0 :: []) h 0 0 = (h.1 a = (0, 0) ∧ eX0_eachOrder t ret F n 26 [v0, v1, v2, v3, v4] (va_rf (h.2.2.2.1 a 0) :: r0 :: []) h 0 0) := (amWp_dec rfl dX0_eachOrder_23 rfl).trans (amS4 (Nat.le_of_ble_eq_true rfl) (Nat.le_of_ble_eq_true rfl) (Nat.le_of_ble_eq_true rfl) (Nat.le_of_ble_eq_true rfl))
theorem wX0_eachOrder_26 {ret F n h} {t : Nat} {v0 v1 v2 v3 v4 x0 r0} : eX0_eachOrder t ret F (n + 1) 26 [v0, v1, v2, v3, v4] (.ref x0 :: r0 :: []) h 0 0 = (h.1 x0 = (0, 1) ∧ tX1_many [.ref x0] h (fun v h => eX0_eachOrder t ret F n 29 [v0, v1, v2, v3, v4] (v.toList ++ (r0 :: [])) h 0 0)) := (amWp_dec rfl dX0_eachOrder_26 rfl).trans (amS4 (Nat.le_of_ble_eq_true rfl) (Nat.le_of_ble_eq_true rfl) (Nat.le_of_ble_eq_true rfl) (Nat.le_of_ble_eq_true rfl))
theorem wX0_eachOrder_29 {ret F n h} {t : Nat} {v0 v1 v2 v3 v4 st y x} : eX0_eachOrder t ret F (n + 1) 29 [v0, v1, v2, v3, v4] (.int y :: .int x :: st) h 0 0 = ((y ≤ x → eX0_eachOrder t ret F n 97 [v0, v1, v2, v3, v4] (st) h 0 0) ∧ (¬ y ≤ x → eX0_eachOrder t ret F n 32 [v0, v1, v2, v3, v4] (st) h 0 0)) := (amWp_dec rfl dX0_eachOrder_29 rfl).trans rfl
theorem wX0_eachOrder_32 {ret F n h} {t : Nat} {v0 v1 v2 v4 st x} : eX0_eachOrder t ret F (n + 1) 32 [v0, v1, v2, .int x, v4] (st) h 0 0 = (eX0_eachOrder t ret F n 33 [v0, v1, v2, .int x, v4] (.int x :: st) h 0 0) := (amWp_dec rfl dX0_eachOrder_32 rfl).trans rfl
theorem wX0_eachOrder_33 {ret F n h} {t : Nat} {v0 v1 v2 v3 v4 st x} : eX0_eachOrder t ret F (n + 1) 33 [v0, v1, v2, v3, v4] (.int x :: st) h 0 0 = ((x = 0 → eX0_eachOrder t ret F n 97 [v0, v1, v2, v3, v4] (st) h 0 0) ∧ (¬ x = 0 → eX0_eachOrder t ret F n 36 [v0, v1, v2, v3, v4] (st) h 0 0)) := (amWp_dec rfl dX0_eachOrder_33 rfl).trans rfl
theorem wX0_eachOrder_36 {ret F n h} {t : Nat} {v0 v2 v3 v4 st x} : eX0_eachOrder t ret F (n + 1) 36 [v0, .int x, v2, v3, v4] (st) h 0 0 = (eX0_eachOrder t ret F n 37 [v0, .int x, v2, v3, v4] (.int x :: st) h 0 0) := (amWp_dec rfl dX0_eachOrder_36 rfl).trans rfl
theorem wX0_eachOrder_37 {ret F n h} {t : Nat} {v0 v1 v2 v3 st x} : eX0_eachOrder t ret F (n + 1) 37 [v0, v1, v2, v3, .int x] (st) h 0 0 = (eX0_eachOrder t ret F n 39 [v0, v1, v2, v3, .int x] (.int x :: st) h 0 0) := (amWp_dec rfl dX0_eachOrder_37 rfl).trans rfl
theorem wX0_eachOrder_39 {ret F n h} {t : Nat} {v0 v1 v2 v3 v4 x1 x0} : eX0_eachOrder t ret F (n + 1) 39 [v0, v1, v2, v3, v4] (.int x1 :: .int x0 :: []) h 0 0 = (tX0_has [.int x0, .int x1] h (fun v h => eX0_eachOrder t ret F n 42 [v0, v1, v2, v3, v4] (v.toList ++ ([])) h 0 0)) := (amWp_dec rfl dX0_eachOrder_39 rfl).trans (amS4 (Nat.le_of_ble_eq_true rfl) (Nat.le_of_ble_eq_true rfl) (Nat.le_of_ble_eq_true rfl) (Nat.le_of_ble_eq_true rfl))
theorem wX0_eachOrder_42 {ret F n h} {t : Nat} {v0 v1 v2 v3 v4 st x} : eX0_eachOrder t ret F (n + 1) 42 [v0, v1, v2, v3, v4] (.int x :: st) h 0 0 = ((x = 0 → eX0_eachOrder t ret F n 91 [v0, v1, v2, v3, v4] (st) h 0 0) ∧ (¬ x = 0 → eX0_eachOrder t ret F n 45 [v0, v1, v2, v3, v4] (st) h 0 0)) := (amWp_dec rfl dX0_eachOrder_42 rfl).trans rfl
theorem wX0_eachOrder_45 {ret F n h} {t : Nat} {v0 v1 v2 v3 v4 st} : eX0_eachOrder t ret F (n + 1) 45 [v0, v1, v2, v3, v4] (st) h 0 0 = (amIsR v0 ∧ eX0_eachOrder t ret F n 46 [v0, v1, v2, v3, v4] (v0 :: st) h 0 0) := (amWp_dec rfl dX0_eachOrder_45 rfl).trans rfl
theorem wX0_eachOrder_46 {ret F n h} {t : Nat} {v0 v1 v2 v3 v4 a} : eX0_eachOrder t ret F (n + 1) 46 [v0, v1, v2, v3, v4] (.ref a :: []) h 0 0 = (h.1 a = (0, 0) ∧ eX0_eachOrder t ret F n 49 [v0, v1, v2, v3, v4] (va_rf (h.2.2.2.1 a 8) :: []) h 0 0) := (amWp_dec rfl dX0_eachOrder_46 rfl).trans (amS4 (Nat.le_of_ble_eq_true rfl) (Nat.le_of_ble_eq_true rfl) (Nat.le_of_ble_eq_true rfl) (Nat.le_of_ble_eq_true rfl))
theorem wX0_eachOrder_49 {ret F n h} {t : Nat} {v0 v1 v2 v3 v4 st} : eX0_eachOrder t ret F (n + 1) 49 [v0, v1, v2, v3, v4] (st) h 0 0 = (amIsR v0 ∧ eX0_eachOrder t ret F n 50 [v0, v1, v2, v3, v4] (v0 :: st) h 0 0) := (amWp_dec rfl dX0_eachOrder_49 rfl).trans rfl
theorem wX0_eachOrder_50 {ret F n h} {t : Nat} {v0 v1 v2 v3 v4 r0 a} : eX0_eachOrder t ret F (n + 1) 50 [v0, v1, v2, v3, v4] (.ref a :: r0 :: []) h 0 0 = (h.1 a = (0, 0) ∧ eX0_eachOrder t ret F n 53 [v0, v1, v2, v3, v4] (va_rf (h.2.2.2.1 a 8) :: r0 :: []) h 0 0) := (amWp_dec rfl dX0_eachOrder_50 rfl).trans (amS4 (Nat.le_of_ble_eq_true rfl) (Nat.le_of_ble_eq_true rfl) (Nat.le_of_ble_eq_true rfl) (Nat.le_of_ble_eq_true rfl))
theorem wX0_eachOrder_53 {ret F n h} {t : Nat} {v0 v1 v2 v3 v4 r0 a} : eX0_eachOrder t ret F (n + 1) 53 [v0, v1, v2, v3, v4] (.ref a :: r0 :: []) h 0 0 = (h.1 a = (0, 2) ∧ eX0_eachOrder t ret F n 56 [v0, v1, v2, v3, v4] (.int (h.2.1 a 1) :: r0 :: []) h 0 0) := (amWp_dec rfl dX0_eachOrder_53 rfl).trans (amS4 (Nat.le_of_ble_eq_true rfl) (Nat.le_of_ble_eq_true rfl) (Nat.le_of_ble_eq_true rfl) (Nat.le_of_ble_eq_true rfl))
theorem wX0_eachOrder_56 {ret F n h} {t : Nat} {v0 v1 v2 v3 st x} : eX0_eachOrder t ret F (n + 1) 56 [v0, v1, v2, v3, .int x] (st) h 0 0 = (eX0_eachOrder t ret F n 58 [v0, v1, v2, v3, .int x] (.int x :: st) h 0 0) := (amWp_dec rfl dX0_eachOrder_56 rfl).trans rfl
theorem wX0_eachOrder_58 {ret F n h} {t : Nat} {v0 v1 v2 v3 v4 x2 x1 x0} : eX0_eachOrder t ret F (n + 1) 58 [v0, v1, v2, v3, v4] (.int x2 :: .int x1 :: .ref x0 :: []) h 0 0 = (h.1 x0 = (0, 2) ∧ tX2_put [.ref x0, .int x1, .int x2] h (fun v h => eX0_eachOrder t ret F n 61 [v0, v1, v2, v3, v4] (v.toList ++ ([])) h 0 0)) := (amWp_dec rfl dX0_eachOrder_58 rfl).trans (amS4 (Nat.le_of_ble_eq_true rfl) (Nat.le_of_ble_eq_true rfl) (Nat.le_of_ble_eq_true rfl) (Nat.le_of_ble_eq_true rfl))
theorem wX0_eachOrder_61 {ret F n ls st h k z} {t : Nat} : eX0_eachOrder t ret F (n + 1) 61 ls st h k z = F 61 ls st h k z := amWp_cut rfl
theorem uX0_eachOrder_61 {ret F n h} {t : Nat} {v0 v1 v2 v3 v4 st} : sX0_eachOrder t ret F n 61 [v0, v1, v2, v3, v4] (st) h 0 0 = (amIsR v0 ∧ eX0_eachOrder t ret F n 62 [v0, v1, v2, v3, v4] (v0 :: st) h 0 0) := (amWs_dec dX0_eachOrder_61 rfl).trans rfl
theorem wX0_eachOrder_62 {ret F n h} {t : Nat} {v0 v2 v3 v4 st x} : eX0_eachOrder t ret F (n + 1) 62 [v0, .int x, v2, v3, v4] (st) h 0 0 = (eX0_eachOrder t ret F n 63 [v0, .int x, v2, v3, v4] (.int x :: st) h 0 0) := (amWp_dec rfl dX0_eachOrder_62 rfl).trans rfl
theorem wX0_eachOrder_63 {ret F n h} {t : Nat} {v0 v1 v2 v3 v4 st} : eX0_eachOrder t ret F (n + 1) 63 [v0, v1, v2, v3, v4] (st) h 0 0 = (eX0_eachOrder t ret F n 64 [v0, v1, v2, v3, v4] (.int (nI 1) :: st) h 0 0) := (amWp_dec rfl dX0_eachOrder_63 rfl).trans rfl
theorem wX0_eachOrder_64 {ret F n h} {t : Nat} {v0 v1 v2 v3 st x} : eX0_eachOrder t ret F (n + 1) 64 [v0, v1, v2, v3, .int x] (st) h 0 0 = (eX0_eachOrder t ret F n 66 [v0, v1, v2, v3, .int x] (.int x :: st) h 0 0) := (amWp_dec rfl dX0_eachOrder_64 rfl).trans rfl
theorem wX0_eachOrder_66 {ret F n h} {t : Nat} {v0 v1 v2 v3 v4 st y x} : eX0_eachOrder t ret F (n + 1) 66 [v0, v1, v2, v3, v4] (.int y :: .int x :: st) h 0 0 = (eX0_eachOrder t ret F n 67 [v0, v1, v2, v3, v4] (.int (x <<< (y &&& 31)) :: st) h 0 0) := (amWp_dec rfl dX0_eachOrder_66 rfl).trans rfl
theorem wX0_eachOrder_67 {ret F n h} {t : Nat} {v0 v1 v2 v3 v4 st} : eX0_eachOrder t ret F (n + 1) 67 [v0, v1, v2, v3, v4] (st) h 0 0 = (eX0_eachOrder t ret F n 68 [v0, v1, v2, v3, v4] (.int (-1) :: st) h 0 0) := (amWp_dec rfl dX0_eachOrder_67 rfl).trans rfl
theorem wX0_eachOrder_68 {ret F n h} {t : Nat} {v0 v1 v2 v3 v4 st y x} : eX0_eachOrder t ret F (n + 1) 68 [v0, v1, v2, v3, v4] (.int y :: .int x :: st) h 0 0 = (eX0_eachOrder t ret F n 69 [v0, v1, v2, v3, v4] (.int (x ^^^ y) :: st) h 0 0) := (amWp_dec rfl dX0_eachOrder_68 rfl).trans rfl
theorem wX0_eachOrder_69 {ret F n h} {t : Nat} {v0 v1 v2 v3 v4 st y x} : eX0_eachOrder t ret F (n + 1) 69 [v0, v1, v2, v3, v4] (.int y :: .int x :: st) h 0 0 = (eX0_eachOrder t ret F n 70 [v0, v1, v2, v3, v4] (.int (x &&& y) :: st) h 0 0) := (amWp_dec rfl dX0_eachOrder_69 rfl).trans rfl
theorem wX0_eachOrder_70 {ret F n h} {t : Nat} {v0 v1 v2 v3 v4 st} : eX0_eachOrder t ret F (n + 1) 70 [v0, v1, v2, v3, v4] (st) h 0 0 = (amIsR v2 ∧ eX0_eachOrder t ret F n 71 [v0, v1, v2, v3, v4] (v2 :: st) h 0 0) := (amWp_dec rfl dX0_eachOrder_70 rfl).trans rfl
theorem wX0_eachOrder_71 {ret F n h} {t : Nat} {v0 v1 v2 v3 v4 x2 x1 x0} : eX0_eachOrder t ret F (n + 1) 71 [v0, v1, v2, v3, v4] (.ref x2 :: .int x1 :: .ref x0 :: []) h 0 0 = (h.1 x0 = (0, 0) ∧ (tEO t) [.ref x0, .int x1, .ref x2] h (fun v h => eX0_eachOrder t ret F n 74 [v0, v1, v2, v3, v4] (v.toList ++ ([])) h 0 0)) := (amWp_dec rfl dX0_eachOrder_71 rfl).trans (amS4 (Nat.le_of_ble_eq_true rfl) (Nat.le_of_ble_eq_true rfl) (Nat.le_of_ble_eq_true rfl) (Nat.le_of_ble_eq_true rfl))
theorem wX0_eachOrder_74 {ret F n ls st h k z} {t : Nat} : eX0_eachOrder t ret F (n + 1) 74 ls st h k z = F 74 ls st h k z := amWp_cut rfl
theorem uX0_eachOrder_74 {ret F n h} {t : Nat} {v0 v1 v2 v3 v4 st x} : sX0_eachOrder t ret F n 74 [v0, v1, v2, v3, v4] (.int x :: st) h 0 0 = (eX0_eachOrder t ret F n 75 [v0, v1, amClr v2, .int x, v4] (st) h 0 0) := (amWs_dec dX0_eachOrder_74 rfl).trans (amTrue (Nat.le_of_ble_eq_true rfl))
theorem wX0_eachOrder_75 {ret F n h} {t : Nat} {v0 v1 v2 v3 v4 st} : eX0_eachOrder t ret F (n + 1) 75 [v0, v1, v2, v3, v4] (st) h 0 0 = (amIsR v0 ∧ eX0_eachOrder t ret F n 76 [v0, v1, v2, v3, v4] (v0 :: st) h 0 0) := (amWp_dec rfl dX0_eachOrder_75 rfl).trans rfl
theorem wX0_eachOrder_76 {ret F n h} {t : Nat} {v0 v1 v2 v3 v4 a} : eX0_eachOrder t ret F (n + 1) 76 [v0, v1, v2, v3, v4] (.ref a :: []) h 0 0 = (h.1 a = (0, 0) ∧ eX0_eachOrder t ret F n 79 [v0, v1, v2, v3, v4] (va_rf (h.2.2.2.1 a 8) :: []) h 0 0) := (amWp_dec rfl dX0_eachOrder_76 rfl).trans (amS4 (Nat.le_of_ble_eq_true rfl) (Nat.le_of_ble_eq_true rfl) (Nat.le_of_ble_eq_true rfl) (Nat.le_of_ble_eq_true rfl))
theorem wX0_eachOrder_79 {ret F n h} {t : Nat} {v0 v1 v2 v3 v4 st} : eX0_eachOrder t ret F (n + 1) 79 [v0, v1, v2, v3, v4] (st) h 0 0 = (amIsR v0 ∧ eX0_eachOrder t ret F n 80 [v0, v1, v2, v3, v4] (v0 :: st) h 0 0) := (amWp_dec rfl dX0_eachOrder_79 rfl).trans rfl
theorem wX0_eachOrder_80 {ret F n h} {t : Nat} {v0 v1 v2 v3 v4 r0 a} : eX0_eachOrder t ret F (n + 1) 80 [v0, v1, v2, v3, v4] (.ref a :: r0 :: []) h 0 0 = (h.1 a = (0, 0) ∧ eX0_eachOrder t ret F n 83 [v0, v1, v2, v3, v4] (va_rf (h.2.2.2.1 a 8) :: r0 :: []) h 0 0) := (amWp_dec rfl dX0_eachOrder_80 rfl).trans (amS4 (Nat.le_of_ble_eq_true rfl) (Nat.le_of_ble_eq_true rfl) (Nat.le_of_ble_eq_true rfl) (Nat.le_of_ble_eq_true rfl))
theorem wX0_eachOrder_83 {ret F n h} {t : Nat} {v0 v1 v2 v3 v4 r0 a} : eX0_eachOrder t ret F (n + 1) 83 [v0, v1, v2, v3, v4] (.ref a :: r0 :: []) h 0 0 = (h.1 a = (0, 2) ∧ eX0_eachOrder t ret F n 86 [v0, v1, v2, v3, v4] (.int (h.2.1 a 1) :: r0 :: []) h 0 0) := (amWp_dec rfl dX0_eachOrder_83 rfl).trans (amS4 (Nat.le_of_ble_eq_true rfl) (Nat.le_of_ble_eq_true rfl) (Nat.le_of_ble_eq_true rfl) (Nat.le_of_ble_eq_true rfl))
theorem wX0_eachOrder_86 {ret F n h} {t : Nat} {v0 v1 v2 v3 v4 st} : eX0_eachOrder t ret F (n + 1) 86 [v0, v1, v2, v3, v4] (st) h 0 0 = (eX0_eachOrder t ret F n 87 [v0, v1, v2, v3, v4] (.int (nI 1) :: st) h 0 0) := (amWp_dec rfl dX0_eachOrder_86 rfl).trans rfl
theorem wX0_eachOrder_87 {ret F n h} {t : Nat} {v0 v1 v2 v3 v4 st y x} : eX0_eachOrder t ret F (n + 1) 87 [v0, v1, v2, v3, v4] (.int y :: .int x :: st) h 0 0 = (eX0_eachOrder t ret F n 88 [v0, v1, v2, v3, v4] (.int (x - y) :: st) h 0 0) := (amWp_dec rfl dX0_eachOrder_87 rfl).trans rfl
theorem wX0_eachOrder_88 {ret F n h} {t : Nat} {v0 v1 v2 v3 v4 x1 x0} : eX0_eachOrder t ret F (n + 1) 88 [v0, v1, v2, v3, v4] (.int x1 :: .ref x0 :: []) h 0 0 = (h.1 x0 = (0, 2) ∧ tX2_take [.ref x0, .int x1] h (fun v h => eX0_eachOrder t ret F n 91 [v0, v1, v2, v3, v4] (v.toList ++ ([])) h 0 0)) := (amWp_dec rfl dX0_eachOrder_88 rfl).trans (amS4 (Nat.le_of_ble_eq_true rfl) (Nat.le_of_ble_eq_true rfl) (Nat.le_of_ble_eq_true rfl) (Nat.le_of_ble_eq_true rfl))
theorem wX0_eachOrder_91 {ret F n ls st h k z} {t : Nat} : eX0_eachOrder t ret F (n + 1) 91 ls st h k z = F 91 ls st h k z := amWp_cut rfl
theorem uX0_eachOrder_91 {ret F n h} {t : Nat} {v0 v1 v2 v3 st x} : sX0_eachOrder t ret F n 91 [v0, v1, v2, v3, .int x] (st) h 0 0 = (eX0_eachOrder t ret F n 94 [v0, v1, v2, amClr v3, .int (x + nI 1)] (st) h 0 0) := (amWs_dec dX0_eachOrder_91 rfl).trans rfl
theorem wX0_eachOrder_94 {ret F n h} {t : Nat} {v0 v1 v2 v3 v4 st} : eX0_eachOrder t ret F (n + 1) 94 [v0, v1, v2, v3, v4] (st) h 0 0 = (eX0_eachOrder t ret F n 20 [v0, v1, v2, v3, v4] (st) h 0 0) := (amWp_dec rfl dX0_eachOrder_94 rfl).trans rfl
theorem wX0_eachOrder_97 {ret F n h} {t : Nat} {v0 v1 v2 v4 st x} : eX0_eachOrder t ret F (n + 1) 97 [v0, v1, v2, .int x, v4] (st) h 0 0 = (eX0_eachOrder t ret F n 98 [v0, v1, v2, .int x, v4] (.int x :: st) h 0 0) := (amWp_dec rfl dX0_eachOrder_97 rfl).trans rfl
theorem wX0_eachOrder_98 {ret F n h} {t : Nat} {v0 v1 v2 v3 v4 x} : eX0_eachOrder t ret F (n + 1) 98 [v0, v1, v2, v3, v4] ([.int x]) h 0 0 = (narrow .boolean (.int x) = .int x ∧ ret (some (.int x)) h 0 0) := (amWp_dec rfl dX0_eachOrder_98 rfl).trans (amRetTy)
theorem evX0_eachOrder (l : Launch) (G : amG) (t : Nat) (ih : amMet l G yX0_eachOrder (ws_ yX0_eachOrder cX0_eachOrder 5 (some .boolean)) (11 + t) 0 0 (tEO t)) : ∀ pc S i sz, amLk (rX0_eachOrder t) pc = some S → decode cX0_eachOrder pc = .ok (i, sz) → amSiteP pc G l yX0_eachOrder.cls yX0_eachOrder.name yX0_eachOrder.desc (amRm (11 + t + 1) 0 0) i sz S.1 S.2.1 S.2.2.1 S.2.2.2 := amLk_ok (by
  refine List.forall_mem_cons.mpr ⟨⟨_, _, dX0_eachOrder_6, amSite.P (amSiteGet ⟨_, rfl, by decide, Or.inl q309⟩)⟩, ?_⟩
  refine List.forall_mem_cons.mpr ⟨⟨_, _, dX0_eachOrder_9, amSite.P (amSiteAsk rfl (by omega))⟩, ?_⟩
  refine List.forall_mem_cons.mpr ⟨⟨_, _, dX0_eachOrder_23, amSite.P (amSiteGet ⟨_, rfl, by decide, Or.inl q301⟩)⟩, ?_⟩
  refine List.forall_mem_cons.mpr ⟨⟨_, _, dX0_eachOrder_26, amSite.P (amSiteV (C := RX1) (metX1_many l G) rfl (by omega) (by decide) (lw_V q478 q479 q480 q87 q481) ⟨_, rfl, rfl⟩ ⟨rfl, by decide +kernel, by decide +kernel, by decide +kernel⟩)⟩, ?_⟩
  refine List.forall_mem_cons.mpr ⟨⟨_, _, dX0_eachOrder_39, amSite.P (amSiteS (metX0_has l G) rfl (by omega) (by decide) (lw_S q435 q436 q86 q437) ⟨by decide +kernel, by decide +kernel, by decide +kernel⟩)⟩, ?_⟩
  refine List.forall_mem_cons.mpr ⟨⟨_, _, dX0_eachOrder_46, amSite.P (amSiteGet ⟨_, rfl, by decide, Or.inl q309⟩)⟩, ?_⟩
  refine List.forall_mem_cons.mpr ⟨⟨_, _, dX0_eachOrder_50, amSite.P (amSiteGet ⟨_, rfl, by decide, Or.inl q309⟩)⟩, ?_⟩
  refine List.forall_mem_cons.mpr ⟨⟨_, _, dX0_eachOrder_53, amSite.P (amSiteGet ⟨_, rfl, by decide, Or.inr ⟨"ReadingStages", List.mem_of_getElem? (i := 1) rfl⟩⟩)⟩, ?_⟩
  refine List.forall_mem_cons.mpr ⟨⟨_, _, dX0_eachOrder_58, amSite.P (amSiteV (C := RX2) (metX2_put l G) rfl (by omega) (by decide) (lw_V q490 q491 q492 q88 q493) ⟨_, rfl, rfl⟩ ⟨rfl, by decide +kernel, by decide +kernel, by decide +kernel⟩)⟩, ?_⟩
  refine List.forall_mem_cons.mpr ⟨⟨_, _, dX0_eachOrder_71, amSite.P (amSiteV (C := RX0) ih rfl (by omega) (by decide) (lw_V q482 q484 qs14 q86 q485) ⟨_, rfl, rfl⟩ ⟨rfl, by decide +kernel, by decide +kernel, by decide +kernel⟩)⟩, ?_⟩
  refine List.forall_mem_cons.mpr ⟨⟨_, _, dX0_eachOrder_76, amSite.P (amSiteGet ⟨_, rfl, by decide, Or.inl q309⟩)⟩, ?_⟩
  refine List.forall_mem_cons.mpr ⟨⟨_, _, dX0_eachOrder_80, amSite.P (amSiteGet ⟨_, rfl, by decide, Or.inl q309⟩)⟩, ?_⟩
  refine List.forall_mem_cons.mpr ⟨⟨_, _, dX0_eachOrder_83, amSite.P (amSiteGet ⟨_, rfl, by decide, Or.inr ⟨"ReadingStages", List.mem_of_getElem? (i := 1) rfl⟩⟩)⟩, ?_⟩
  refine List.forall_mem_cons.mpr ⟨⟨_, _, dX0_eachOrder_88, amSite.P (amSiteV (C := RX2) (metX2_take l G) rfl (by omega) (by decide) (lw_V q494 q495 q496 q88 q497) ⟨_, rfl, rfl⟩ ⟨rfl, by decide +kernel, by decide +kernel, by decide +kernel⟩)⟩, ?_⟩
  exact fun _ h => absurd h List.not_mem_nil)
theorem goX0_eachOrder {ret F} {t : Nat} (hF : amCld cX0_eachOrder kX0_eachOrder (amLk (rX0_eachOrder t)) (some .boolean) 0 0 ret F) (n : Nat) {pc ls st h k z} (q : sX0_eachOrder t ret F n pc ls st h k z) : F pc ls st h k z := hF.1 n pc ls st h k z q
theorem metX0_eachOrder (l : Launch) (G : amG) : ∀ t, amMet l G yX0_eachOrder (ws_ yX0_eachOrder cX0_eachOrder 5 (some .boolean)) (11 + t) 0 0 (tEO t) := by
  intro t
  induction t with
  | zero => intro as h K hT; exact hT.elim
  | succ t ih =>
  refine amMet_of (cut := kX0_eachOrder) (by decide +kernel) (evX0_eachOrder l G t ih) ?_
  intro as h K hT
  match as, hT with
  | [.ref a, .int left0, .ref r], ⟨σ, f, I, n, left, pre, s, e1, e2, hl, hn, ht, hp, hR, hx, hb, hI, hI1, hI2, hA, hK⟩ =>
  refine ⟨Nat.le_of_ble_eq_true rfl, fun F hF => ?_⟩
  show F 0 [.ref a, .int left0, .ref r, .retAddr 0, .retAddr 0] [] h 0 0
  obtain ⟨a, rfl⟩ : ∃ i : Nat, i = a := ⟨_, rfl⟩
  obtain ⟨r, rfl⟩ : ∃ i : Nat, i = r := ⟨_, rfl⟩
  subst e1; subst e2
  have hl7 : left < 128 := Nat.lt_of_lt_of_le hl (Nat.pow_le_pow_right (by decide) hn : 2 ^ n ≤ 2 ^ 7)
  have retB : ∀ g : Bool, narrow .boolean (.int (amC01 (g = true))) = .int (amC01 (g = true)) := fun g => amC01_nb _
  by_cases z : left = 0
  · subst z
    have e : runA (fun l s => f (pre ++ l) s) (ords t n 0) s = f pre s := by
      rw [ords_0, runA, List.append_nil]
      by_cases y : (f pre s).2 = true
      · rw [if_pos y, runA, ← y]
      · rw [if_neg y]
        have y2 : (f pre s).2 = false := by simpa using y
        exact Prod.ext rfl y2.symm
    rw [e] at hK
    refine goX0_eachOrder hF 60 ?_
    simp (disch := omega) only [wX0_eachOrder_0, uX0_eachOrder_0, wX0_eachOrder_1, wX0_eachOrder_4, wX0_eachOrder_5, wX0_eachOrder_6, wX0_eachOrder_9, wX0_eachOrder_14, uX0_eachOrder_14, wX0_eachOrder_15, wX0_eachOrder_16, wX0_eachOrder_17, wX0_eachOrder_18, wX0_eachOrder_20, uX0_eachOrder_20, wX0_eachOrder_22, wX0_eachOrder_23, wX0_eachOrder_26, wX0_eachOrder_29, wX0_eachOrder_32, wX0_eachOrder_33, wX0_eachOrder_36, wX0_eachOrder_37, wX0_eachOrder_39, wX0_eachOrder_42, wX0_eachOrder_45, wX0_eachOrder_46, wX0_eachOrder_49, wX0_eachOrder_50, wX0_eachOrder_53, wX0_eachOrder_56, wX0_eachOrder_58, wX0_eachOrder_61, uX0_eachOrder_61, wX0_eachOrder_62, wX0_eachOrder_63, wX0_eachOrder_64, wX0_eachOrder_66, wX0_eachOrder_67, wX0_eachOrder_68, wX0_eachOrder_69, wX0_eachOrder_70, wX0_eachOrder_71, wX0_eachOrder_74, uX0_eachOrder_74, wX0_eachOrder_75, wX0_eachOrder_76, wX0_eachOrder_79, wX0_eachOrder_80, wX0_eachOrder_83, wX0_eachOrder_86, wX0_eachOrder_87, wX0_eachOrder_88, wX0_eachOrder_91, uX0_eachOrder_91, wX0_eachOrder_94, wX0_eachOrder_97, wX0_eachOrder_98, amSI_1, amSI_2, amSI_3, amSI_s, amU_at, amIsR_ref, amIsR_null, amIsR_rf, amRf_some, amRf_none, amClr_int, amClr_ref, amClr_null, amClr_long, amClr_ra, amClr_rf, amFit_int, amFit_oref, amFit_aref, amFit_onull, amFit_anull, amOptSome, amOptNone, List.cons_append, List.nil_append, true_and, and_true, true_implies, not_true_eq_false, not_false_eq_true, false_implies, and_self, Nat.add_zero, Nat.zero_add, ne_eq, Prod.mk.injEq, amC01_0, amC01_1, amC01_nb, amNb0, amNb1, amTcpI_d, Nat.reduceLeDiff, Nat.reduceAdd, Nat.reduceSub, Nat.reduceEqDiff, Nat.le_refl, amN0le, hR.s, hR.r, amLeI, amLtI, amEqI, amLe0, amGt0, amEq0, amNotPosI, amGe0, amVI, amCl_nI, amAdd, amSub, amMul]
    refine hA pre s h.2.1 _ hx (by rw [cnt7_z] at hp; exact hp) hI hb (fun m' q1 q2 => ?_)
    refine goX0_eachOrder hF 60 ?_
    simp (disch := omega) only [wX0_eachOrder_0, uX0_eachOrder_0, wX0_eachOrder_1, wX0_eachOrder_4, wX0_eachOrder_5, wX0_eachOrder_6, wX0_eachOrder_9, wX0_eachOrder_14, uX0_eachOrder_14, wX0_eachOrder_15, wX0_eachOrder_16, wX0_eachOrder_17, wX0_eachOrder_18, wX0_eachOrder_20, uX0_eachOrder_20, wX0_eachOrder_22, wX0_eachOrder_23, wX0_eachOrder_26, wX0_eachOrder_29, wX0_eachOrder_32, wX0_eachOrder_33, wX0_eachOrder_36, wX0_eachOrder_37, wX0_eachOrder_39, wX0_eachOrder_42, wX0_eachOrder_45, wX0_eachOrder_46, wX0_eachOrder_49, wX0_eachOrder_50, wX0_eachOrder_53, wX0_eachOrder_56, wX0_eachOrder_58, wX0_eachOrder_61, uX0_eachOrder_61, wX0_eachOrder_62, wX0_eachOrder_63, wX0_eachOrder_64, wX0_eachOrder_66, wX0_eachOrder_67, wX0_eachOrder_68, wX0_eachOrder_69, wX0_eachOrder_70, wX0_eachOrder_71, wX0_eachOrder_74, uX0_eachOrder_74, wX0_eachOrder_75, wX0_eachOrder_76, wX0_eachOrder_79, wX0_eachOrder_80, wX0_eachOrder_83, wX0_eachOrder_86, wX0_eachOrder_87, wX0_eachOrder_88, wX0_eachOrder_91, uX0_eachOrder_91, wX0_eachOrder_94, wX0_eachOrder_97, wX0_eachOrder_98, amSI_1, amSI_2, amSI_3, amSI_s, amU_at, amIsR_ref, amIsR_null, amIsR_rf, amRf_some, amRf_none, amClr_int, amClr_ref, amClr_null, amClr_long, amClr_ra, amClr_rf, amFit_int, amFit_oref, amFit_aref, amFit_onull, amFit_anull, amOptSome, amOptNone, List.cons_append, List.nil_append, true_and, and_true, true_implies, not_true_eq_false, not_false_eq_true, false_implies, and_self, Nat.add_zero, Nat.zero_add, ne_eq, Prod.mk.injEq, amC01_0, amC01_1, amC01_nb, amNb0, amNb1, amTcpI_d, Nat.reduceLeDiff, Nat.reduceAdd, Nat.reduceSub, Nat.reduceEqDiff, Nat.le_refl, amN0le, hR.s, hR.r, amLeI, amLtI, amEqI, amLe0, amGt0, amEq0, amNotPosI, amGe0, amVI, amCl_nI, amAdd, amSub, amMul]
    exact amRet.of (by decide) (by decide) (hK m' q1 q2)
  obtain ⟨t', rfl⟩ : ∃ t', t = t' + 1 := by
    cases t with
    | zero => exact absurd (cnt7_0 left hl7 (by omega)) z
    | succ t' => exact ⟨t', rfl⟩
  have eo : ords (t' + 1) n left = (List.range n).flatMap (fun k => if left.testBit k then (ords t' n (andn left (2 ^ k))).map (k :: ·) else []) := by rw [ords, if_neg z]
  rw [eo] at hK
  generalize hG : (fun l s => f (pre ++ l) s) = g at hK
  generalize hFk : (fun k => if left.testBit k then (ords t' n (andn left (2 ^ k))).map (k :: ·) else []) = Fk at hK
  have step : ∀ k s0, runA g ((List.range (k + 1)).flatMap Fk) s0 = if (runA g ((List.range k).flatMap Fk) s0).2 then runA g (Fk k) (runA g ((List.range k).flatMap Fk) s0).1 else runA g ((List.range k).flatMap Fk) s0 := by
    intro k s0
    rw [List.range_succ, List.flatMap_append, runA_app, List.flatMap_singleton]
  have stop : ∀ u k, (runA g ((List.range k).flatMap Fk) s).2 = false → runA g ((List.range (k + u)).flatMap Fk) s = runA g ((List.range k).flatMap Fk) s := by
    intro u
    induction u with
    | zero => intro k _; rfl
    | succ u ihu =>
      intro k hk
      rw [← Nat.add_assoc, step, ihu k hk, hk]
      rfl
  have loop : ∀ u k m, k + u = n → I (runA g ((List.range k).flatMap Fk) s).1 m → bdIs m 37 pre → F 20 [.ref 24, .int (nI left), .ref r, .int (amC01 ((runA g ((List.range k).flatMap Fk) s).2 = true)), .int (nI k)] [] (amSI h m) 0 0 := by
    intro u
    induction u with
    | zero =>
      intro k m e1 i1 i2
      have e : k = n := by omega
      subst e
      have mm := hI1 _ m i1
      refine goX0_eachOrder hF 60 ?_
      simp (disch := omega) only [wX0_eachOrder_0, uX0_eachOrder_0, wX0_eachOrder_1, wX0_eachOrder_4, wX0_eachOrder_5, wX0_eachOrder_6, wX0_eachOrder_9, wX0_eachOrder_14, uX0_eachOrder_14, wX0_eachOrder_15, wX0_eachOrder_16, wX0_eachOrder_17, wX0_eachOrder_18, wX0_eachOrder_20, uX0_eachOrder_20, wX0_eachOrder_22, wX0_eachOrder_23, wX0_eachOrder_26, wX0_eachOrder_29, wX0_eachOrder_32, wX0_eachOrder_33, wX0_eachOrder_36, wX0_eachOrder_37, wX0_eachOrder_39, wX0_eachOrder_42, wX0_eachOrder_45, wX0_eachOrder_46, wX0_eachOrder_49, wX0_eachOrder_50, wX0_eachOrder_53, wX0_eachOrder_56, wX0_eachOrder_58, wX0_eachOrder_61, uX0_eachOrder_61, wX0_eachOrder_62, wX0_eachOrder_63, wX0_eachOrder_64, wX0_eachOrder_66, wX0_eachOrder_67, wX0_eachOrder_68, wX0_eachOrder_69, wX0_eachOrder_70, wX0_eachOrder_71, wX0_eachOrder_74, uX0_eachOrder_74, wX0_eachOrder_75, wX0_eachOrder_76, wX0_eachOrder_79, wX0_eachOrder_80, wX0_eachOrder_83, wX0_eachOrder_86, wX0_eachOrder_87, wX0_eachOrder_88, wX0_eachOrder_91, uX0_eachOrder_91, wX0_eachOrder_94, wX0_eachOrder_97, wX0_eachOrder_98, amSI_1, amSI_2, amSI_3, amSI_s, amU_at, amIsR_ref, amIsR_null, amIsR_rf, amRf_some, amRf_none, amClr_int, amClr_ref, amClr_null, amClr_long, amClr_ra, amClr_rf, amFit_int, amFit_oref, amFit_aref, amFit_onull, amFit_anull, amOptSome, amOptNone, List.cons_append, List.nil_append, true_and, and_true, true_implies, not_true_eq_false, not_false_eq_true, false_implies, and_self, Nat.add_zero, Nat.zero_add, ne_eq, Prod.mk.injEq, amC01_0, amC01_1, amC01_nb, amNb0, amNb1, amTcpI_d, Nat.reduceLeDiff, Nat.reduceAdd, Nat.reduceSub, Nat.reduceEqDiff, Nat.le_refl, amN0le, hR.s, hR.r, amLeI, amLtI, amEqI, amLe0, amGt0, amEq0, amNotPosI, amGe0, amVI, amCl_nI, amAdd, amSub, amMul, tX1_many_d, mm, retB]
      exact amRet.of (by decide) (by decide) (hK m i1 i2)
    | succ u ihu =>
      intro k m e1 i1 i2
      have mm := hI1 _ m i1
      have q : (n ≤ k) = False := eq_false (by omega)
      have nxt := ihu (k + 1)
      rw [step] at nxt
      by_cases y : (runA g ((List.range k).flatMap Fk) s).2 = true
      · rw [if_pos y] at nxt
        rw [amC01_t y]
        have e9 : (nI 1 = 0) = False := by decide
        by_cases tb : left.testBit k = true
        · have c7 := cnt7_out left hl7 k (by omega) tb
          have lp : pre.length < 7 := by omega
          have mp := i2.2.2.1
          have eFk : Fk k = (ords t' n (andn left (2 ^ k))).map (k :: ·) := by rw [← hFk]; exact if_pos tb
          refine goX0_eachOrder hF 60 ?_
          simp (disch := omega) only [wX0_eachOrder_0, uX0_eachOrder_0, wX0_eachOrder_1, wX0_eachOrder_4, wX0_eachOrder_5, wX0_eachOrder_6, wX0_eachOrder_9, wX0_eachOrder_14, uX0_eachOrder_14, wX0_eachOrder_15, wX0_eachOrder_16, wX0_eachOrder_17, wX0_eachOrder_18, wX0_eachOrder_20, uX0_eachOrder_20, wX0_eachOrder_22, wX0_eachOrder_23, wX0_eachOrder_26, wX0_eachOrder_29, wX0_eachOrder_32, wX0_eachOrder_33, wX0_eachOrder_36, wX0_eachOrder_37, wX0_eachOrder_39, wX0_eachOrder_42, wX0_eachOrder_45, wX0_eachOrder_46, wX0_eachOrder_49, wX0_eachOrder_50, wX0_eachOrder_53, wX0_eachOrder_56, wX0_eachOrder_58, wX0_eachOrder_61, uX0_eachOrder_61, wX0_eachOrder_62, wX0_eachOrder_63, wX0_eachOrder_64, wX0_eachOrder_66, wX0_eachOrder_67, wX0_eachOrder_68, wX0_eachOrder_69, wX0_eachOrder_70, wX0_eachOrder_71, wX0_eachOrder_74, uX0_eachOrder_74, wX0_eachOrder_75, wX0_eachOrder_76, wX0_eachOrder_79, wX0_eachOrder_80, wX0_eachOrder_83, wX0_eachOrder_86, wX0_eachOrder_87, wX0_eachOrder_88, wX0_eachOrder_91, uX0_eachOrder_91, wX0_eachOrder_94, wX0_eachOrder_97, wX0_eachOrder_98, amSI_1, amSI_2, amSI_3, amSI_s, amU_at, amIsR_ref, amIsR_null, amIsR_rf, amRf_some, amRf_none, amClr_int, amClr_ref, amClr_null, amClr_long, amClr_ra, amClr_rf, amFit_int, amFit_oref, amFit_aref, amFit_onull, amFit_anull, amOptSome, amOptNone, List.cons_append, List.nil_append, true_and, and_true, true_implies, not_true_eq_false, not_false_eq_true, false_implies, and_self, Nat.add_zero, Nat.zero_add, ne_eq, Prod.mk.injEq, amC01_0, amC01_1, amC01_nb, amNb0, amNb1, amTcpI_d, Nat.reduceLeDiff, Nat.reduceAdd, Nat.reduceSub, Nat.reduceEqDiff, Nat.le_refl, amN0le, hR.s, hR.r, amLeI, amLtI, amEqI, amLe0, amGt0, amEq0, amNotPosI, amGe0, amVI, amCl_nI, amAdd, amSub, amMul, tX1_many_d, mm, q, tX0_has_d, nx_hasI, tb, mp, tX2_put_d, e9]
          refine ⟨pre, pre.length, k, rfl, rfl, hR.mind, i2, Nat.le_refl _, lp, by omega, fun m1 q1 q2 => ?_⟩
          rw [List.insertIdx_length_self] at q1
          have I1 : I (runA g ((List.range k).flatMap Fk) s).1 m1 := hI2 _ _ _ i1 (fun i h1 h2 => q2 i (by omega))
          have wl : andn left (2 ^ k) < 2 ^ n := andn_lt hl
          refine goX0_eachOrder hF 60 ?_
          simp (disch := omega) only [wX0_eachOrder_0, uX0_eachOrder_0, wX0_eachOrder_1, wX0_eachOrder_4, wX0_eachOrder_5, wX0_eachOrder_6, wX0_eachOrder_9, wX0_eachOrder_14, uX0_eachOrder_14, wX0_eachOrder_15, wX0_eachOrder_16, wX0_eachOrder_17, wX0_eachOrder_18, wX0_eachOrder_20, uX0_eachOrder_20, wX0_eachOrder_22, wX0_eachOrder_23, wX0_eachOrder_26, wX0_eachOrder_29, wX0_eachOrder_32, wX0_eachOrder_33, wX0_eachOrder_36, wX0_eachOrder_37, wX0_eachOrder_39, wX0_eachOrder_42, wX0_eachOrder_45, wX0_eachOrder_46, wX0_eachOrder_49, wX0_eachOrder_50, wX0_eachOrder_53, wX0_eachOrder_56, wX0_eachOrder_58, wX0_eachOrder_61, uX0_eachOrder_61, wX0_eachOrder_62, wX0_eachOrder_63, wX0_eachOrder_64, wX0_eachOrder_66, wX0_eachOrder_67, wX0_eachOrder_68, wX0_eachOrder_69, wX0_eachOrder_70, wX0_eachOrder_71, wX0_eachOrder_74, uX0_eachOrder_74, wX0_eachOrder_75, wX0_eachOrder_76, wX0_eachOrder_79, wX0_eachOrder_80, wX0_eachOrder_83, wX0_eachOrder_86, wX0_eachOrder_87, wX0_eachOrder_88, wX0_eachOrder_91, uX0_eachOrder_91, wX0_eachOrder_94, wX0_eachOrder_97, wX0_eachOrder_98, amSI_1, amSI_2, amSI_3, amSI_s, amU_at, amIsR_ref, amIsR_null, amIsR_rf, amRf_some, amRf_none, amClr_int, amClr_ref, amClr_null, amClr_long, amClr_ra, amClr_rf, amFit_int, amFit_oref, amFit_aref, amFit_onull, amFit_anull, amOptSome, amOptNone, List.cons_append, List.nil_append, true_and, and_true, true_implies, not_true_eq_false, not_false_eq_true, false_implies, and_self, Nat.add_zero, Nat.zero_add, ne_eq, Prod.mk.injEq, amC01_0, amC01_1, amC01_nb, amNb0, amNb1, amTcpI_d, Nat.reduceLeDiff, Nat.reduceAdd, Nat.reduceSub, Nat.reduceEqDiff, Nat.le_refl, amN0le, hR.s, hR.r, amLeI, amLtI, amEqI, amLe0, amGt0, amEq0, amNotPosI, amGe0, amVI, amCl_nI, amAdd, amSub, amMul, nx_p2, nx_not]
          refine ⟨σ, f, I, n, andn left (2 ^ k), pre ++ [k], (runA g ((List.range k).flatMap Fk) s).1, rfl, rfl, wl, hn, by omega, by simp; omega, hR, ?_, q1, I1, hI1, hI2, hA, ?_⟩
          · intro x hx2
            rcases List.mem_append.mp hx2 with h1 | h1
            · exact hx x h1
            · rw [List.mem_singleton.mp h1]; omega
          have eg : (fun l s => f (pre ++ [k] ++ l) s) = (fun l s => g (k :: l) s) := by
            funext l s
            rw [← hG]
            simp
          rw [eg]
          intro m2 p1 p2
          have er : runA g (Fk k) (runA g ((List.range k).flatMap Fk) s).1 = runA (fun l s => g (k :: l) s) (ords t' n (andn left (2 ^ k))) (runA g ((List.range k).flatMap Fk) s).1 := by rw [eFk, runA_map]
          rw [← er] at p1 ⊢
          have mp2 := p2.2.2.1
          rw [List.length_append, List.length_singleton] at mp2
          refine goX0_eachOrder hF 60 ?_
          simp (disch := omega) only [wX0_eachOrder_0, uX0_eachOrder_0, wX0_eachOrder_1, wX0_eachOrder_4, wX0_eachOrder_5, wX0_eachOrder_6, wX0_eachOrder_9, wX0_eachOrder_14, uX0_eachOrder_14, wX0_eachOrder_15, wX0_eachOrder_16, wX0_eachOrder_17, wX0_eachOrder_18, wX0_eachOrder_20, uX0_eachOrder_20, wX0_eachOrder_22, wX0_eachOrder_23, wX0_eachOrder_26, wX0_eachOrder_29, wX0_eachOrder_32, wX0_eachOrder_33, wX0_eachOrder_36, wX0_eachOrder_37, wX0_eachOrder_39, wX0_eachOrder_42, wX0_eachOrder_45, wX0_eachOrder_46, wX0_eachOrder_49, wX0_eachOrder_50, wX0_eachOrder_53, wX0_eachOrder_56, wX0_eachOrder_58, wX0_eachOrder_61, uX0_eachOrder_61, wX0_eachOrder_62, wX0_eachOrder_63, wX0_eachOrder_64, wX0_eachOrder_66, wX0_eachOrder_67, wX0_eachOrder_68, wX0_eachOrder_69, wX0_eachOrder_70, wX0_eachOrder_71, wX0_eachOrder_74, uX0_eachOrder_74, wX0_eachOrder_75, wX0_eachOrder_76, wX0_eachOrder_79, wX0_eachOrder_80, wX0_eachOrder_83, wX0_eachOrder_86, wX0_eachOrder_87, wX0_eachOrder_88, wX0_eachOrder_91, uX0_eachOrder_91, wX0_eachOrder_94, wX0_eachOrder_97, wX0_eachOrder_98, amSI_1, amSI_2, amSI_3, amSI_s, amU_at, amIsR_ref, amIsR_null, amIsR_rf, amRf_some, amRf_none, amClr_int, amClr_ref, amClr_null, amClr_long, amClr_ra, amClr_rf, amFit_int, amFit_oref, amFit_aref, amFit_onull, amFit_anull, amOptSome, amOptNone, List.cons_append, List.nil_append, true_and, and_true, true_implies, not_true_eq_false, not_false_eq_true, false_implies, and_self, Nat.add_zero, Nat.zero_add, ne_eq, Prod.mk.injEq, amC01_0, amC01_1, amC01_nb, amNb0, amNb1, amTcpI_d, Nat.reduceLeDiff, Nat.reduceAdd, Nat.reduceSub, Nat.reduceEqDiff, Nat.le_refl, amN0le, hR.s, hR.r, amLeI, amLtI, amEqI, amLe0, amGt0, amEq0, amNotPosI, amGe0, amVI, amCl_nI, amAdd, amSub, amMul, mp2, tX2_take_d]
          refine ⟨pre ++ [k], pre.length, rfl, hR.mind, p2, by simp, fun m3 r1 r2 => ?_⟩
          have ee : (pre ++ [k]).eraseIdx pre.length = pre := by
            rw [List.eraseIdx_append_of_length_le (Nat.le_refl _)]
            simp
          rw [ee] at r1
          have I3 := hI2 _ _ _ p1 (fun i h1 h2 => r2 i (by omega) : mdFr m2 m3)
          have := nxt m3 (by omega) I3 r1
          refine goX0_eachOrder hF 60 ?_
          simp (disch := omega) only [wX0_eachOrder_0, uX0_eachOrder_0, wX0_eachOrder_1, wX0_eachOrder_4, wX0_eachOrder_5, wX0_eachOrder_6, wX0_eachOrder_9, wX0_eachOrder_14, uX0_eachOrder_14, wX0_eachOrder_15, wX0_eachOrder_16, wX0_eachOrder_17, wX0_eachOrder_18, wX0_eachOrder_20, uX0_eachOrder_20, wX0_eachOrder_22, wX0_eachOrder_23, wX0_eachOrder_26, wX0_eachOrder_29, wX0_eachOrder_32, wX0_eachOrder_33, wX0_eachOrder_36, wX0_eachOrder_37, wX0_eachOrder_39, wX0_eachOrder_42, wX0_eachOrder_45, wX0_eachOrder_46, wX0_eachOrder_49, wX0_eachOrder_50, wX0_eachOrder_53, wX0_eachOrder_56, wX0_eachOrder_58, wX0_eachOrder_61, uX0_eachOrder_61, wX0_eachOrder_62, wX0_eachOrder_63, wX0_eachOrder_64, wX0_eachOrder_66, wX0_eachOrder_67, wX0_eachOrder_68, wX0_eachOrder_69, wX0_eachOrder_70, wX0_eachOrder_71, wX0_eachOrder_74, uX0_eachOrder_74, wX0_eachOrder_75, wX0_eachOrder_76, wX0_eachOrder_79, wX0_eachOrder_80, wX0_eachOrder_83, wX0_eachOrder_86, wX0_eachOrder_87, wX0_eachOrder_88, wX0_eachOrder_91, uX0_eachOrder_91, wX0_eachOrder_94, wX0_eachOrder_97, wX0_eachOrder_98, amSI_1, amSI_2, amSI_3, amSI_s, amU_at, amIsR_ref, amIsR_null, amIsR_rf, amRf_some, amRf_none, amClr_int, amClr_ref, amClr_null, amClr_long, amClr_ra, amClr_rf, amFit_int, amFit_oref, amFit_aref, amFit_onull, amFit_anull, amOptSome, amOptNone, List.cons_append, List.nil_append, true_and, and_true, true_implies, not_true_eq_false, not_false_eq_true, false_implies, and_self, Nat.add_zero, Nat.zero_add, ne_eq, Prod.mk.injEq, amC01_0, amC01_1, amC01_nb, amNb0, amNb1, amTcpI_d, Nat.reduceLeDiff, Nat.reduceAdd, Nat.reduceSub, Nat.reduceEqDiff, Nat.le_refl, amN0le, hR.s, hR.r, amLeI, amLtI, amEqI, amLe0, amGt0, amEq0, amNotPosI, amGe0, amVI, amCl_nI, amAdd, amSub, amMul]
          exact this
        · have eFk : Fk k = [] := by rw [← hFk]; exact if_neg tb
          rw [eFk, runA] at nxt
          have := nxt m (by omega) i1 i2
          rw [amC01_t rfl] at this
          refine goX0_eachOrder hF 60 ?_
          simp (disch := omega) only [wX0_eachOrder_0, uX0_eachOrder_0, wX0_eachOrder_1, wX0_eachOrder_4, wX0_eachOrder_5, wX0_eachOrder_6, wX0_eachOrder_9, wX0_eachOrder_14, uX0_eachOrder_14, wX0_eachOrder_15, wX0_eachOrder_16, wX0_eachOrder_17, wX0_eachOrder_18, wX0_eachOrder_20, uX0_eachOrder_20, wX0_eachOrder_22, wX0_eachOrder_23, wX0_eachOrder_26, wX0_eachOrder_29, wX0_eachOrder_32, wX0_eachOrder_33, wX0_eachOrder_36, wX0_eachOrder_37, wX0_eachOrder_39, wX0_eachOrder_42, wX0_eachOrder_45, wX0_eachOrder_46, wX0_eachOrder_49, wX0_eachOrder_50, wX0_eachOrder_53, wX0_eachOrder_56, wX0_eachOrder_58, wX0_eachOrder_61, uX0_eachOrder_61, wX0_eachOrder_62, wX0_eachOrder_63, wX0_eachOrder_64, wX0_eachOrder_66, wX0_eachOrder_67, wX0_eachOrder_68, wX0_eachOrder_69, wX0_eachOrder_70, wX0_eachOrder_71, wX0_eachOrder_74, uX0_eachOrder_74, wX0_eachOrder_75, wX0_eachOrder_76, wX0_eachOrder_79, wX0_eachOrder_80, wX0_eachOrder_83, wX0_eachOrder_86, wX0_eachOrder_87, wX0_eachOrder_88, wX0_eachOrder_91, uX0_eachOrder_91, wX0_eachOrder_94, wX0_eachOrder_97, wX0_eachOrder_98, amSI_1, amSI_2, amSI_3, amSI_s, amU_at, amIsR_ref, amIsR_null, amIsR_rf, amRf_some, amRf_none, amClr_int, amClr_ref, amClr_null, amClr_long, amClr_ra, amClr_rf, amFit_int, amFit_oref, amFit_aref, amFit_onull, amFit_anull, amOptSome, amOptNone, List.cons_append, List.nil_append, true_and, and_true, true_implies, not_true_eq_false, not_false_eq_true, false_implies, and_self, Nat.add_zero, Nat.zero_add, ne_eq, Prod.mk.injEq, amC01_0, amC01_1, amC01_nb, amNb0, amNb1, amTcpI_d, Nat.reduceLeDiff, Nat.reduceAdd, Nat.reduceSub, Nat.reduceEqDiff, Nat.le_refl, amN0le, hR.s, hR.r, amLeI, amLtI, amEqI, amLe0, amGt0, amEq0, amNotPosI, amGe0, amVI, amCl_nI, amAdd, amSub, amMul, tX1_many_d, mm, q, tX0_has_d, nx_hasI, e9]
          refine ⟨fun _ => ?_, fun z => absurd tb z⟩
          refine goX0_eachOrder hF 60 ?_
          simp (disch := omega) only [wX0_eachOrder_0, uX0_eachOrder_0, wX0_eachOrder_1, wX0_eachOrder_4, wX0_eachOrder_5, wX0_eachOrder_6, wX0_eachOrder_9, wX0_eachOrder_14, uX0_eachOrder_14, wX0_eachOrder_15, wX0_eachOrder_16, wX0_eachOrder_17, wX0_eachOrder_18, wX0_eachOrder_20, uX0_eachOrder_20, wX0_eachOrder_22, wX0_eachOrder_23, wX0_eachOrder_26, wX0_eachOrder_29, wX0_eachOrder_32, wX0_eachOrder_33, wX0_eachOrder_36, wX0_eachOrder_37, wX0_eachOrder_39, wX0_eachOrder_42, wX0_eachOrder_45, wX0_eachOrder_46, wX0_eachOrder_49, wX0_eachOrder_50, wX0_eachOrder_53, wX0_eachOrder_56, wX0_eachOrder_58, wX0_eachOrder_61, uX0_eachOrder_61, wX0_eachOrder_62, wX0_eachOrder_63, wX0_eachOrder_64, wX0_eachOrder_66, wX0_eachOrder_67, wX0_eachOrder_68, wX0_eachOrder_69, wX0_eachOrder_70, wX0_eachOrder_71, wX0_eachOrder_74, uX0_eachOrder_74, wX0_eachOrder_75, wX0_eachOrder_76, wX0_eachOrder_79, wX0_eachOrder_80, wX0_eachOrder_83, wX0_eachOrder_86, wX0_eachOrder_87, wX0_eachOrder_88, wX0_eachOrder_91, uX0_eachOrder_91, wX0_eachOrder_94, wX0_eachOrder_97, wX0_eachOrder_98, amSI_1, amSI_2, amSI_3, amSI_s, amU_at, amIsR_ref, amIsR_null, amIsR_rf, amRf_some, amRf_none, amClr_int, amClr_ref, amClr_null, amClr_long, amClr_ra, amClr_rf, amFit_int, amFit_oref, amFit_aref, amFit_onull, amFit_anull, amOptSome, amOptNone, List.cons_append, List.nil_append, true_and, and_true, true_implies, not_true_eq_false, not_false_eq_true, false_implies, and_self, Nat.add_zero, Nat.zero_add, ne_eq, Prod.mk.injEq, amC01_0, amC01_1, amC01_nb, amNb0, amNb1, amTcpI_d, Nat.reduceLeDiff, Nat.reduceAdd, Nat.reduceSub, Nat.reduceEqDiff, Nat.le_refl, amN0le, hR.s, hR.r, amLeI, amLtI, amEqI, amLe0, amGt0, amEq0, amNotPosI, amGe0, amVI, amCl_nI, amAdd, amSub, amMul]
          exact this
      · have y2 : (runA g ((List.range k).flatMap Fk) s).2 = false := by simpa using y
        have e9 : (nI 0 = 0) = True := by decide
        have st := stop (n - k) k y2
        rw [show k + (n - k) = n by omega] at st
        rw [st] at hK
        rw [amC01_f y]
        have := hK m i1 i2
        rw [amC01_f y] at this
        refine goX0_eachOrder hF 60 ?_
        simp (disch := omega) only [wX0_eachOrder_0, uX0_eachOrder_0, wX0_eachOrder_1, wX0_eachOrder_4, wX0_eachOrder_5, wX0_eachOrder_6, wX0_eachOrder_9, wX0_eachOrder_14, uX0_eachOrder_14, wX0_eachOrder_15, wX0_eachOrder_16, wX0_eachOrder_17, wX0_eachOrder_18, wX0_eachOrder_20, uX0_eachOrder_20, wX0_eachOrder_22, wX0_eachOrder_23, wX0_eachOrder_26, wX0_eachOrder_29, wX0_eachOrder_32, wX0_eachOrder_33, wX0_eachOrder_36, wX0_eachOrder_37, wX0_eachOrder_39, wX0_eachOrder_42, wX0_eachOrder_45, wX0_eachOrder_46, wX0_eachOrder_49, wX0_eachOrder_50, wX0_eachOrder_53, wX0_eachOrder_56, wX0_eachOrder_58, wX0_eachOrder_61, uX0_eachOrder_61, wX0_eachOrder_62, wX0_eachOrder_63, wX0_eachOrder_64, wX0_eachOrder_66, wX0_eachOrder_67, wX0_eachOrder_68, wX0_eachOrder_69, wX0_eachOrder_70, wX0_eachOrder_71, wX0_eachOrder_74, uX0_eachOrder_74, wX0_eachOrder_75, wX0_eachOrder_76, wX0_eachOrder_79, wX0_eachOrder_80, wX0_eachOrder_83, wX0_eachOrder_86, wX0_eachOrder_87, wX0_eachOrder_88, wX0_eachOrder_91, uX0_eachOrder_91, wX0_eachOrder_94, wX0_eachOrder_97, wX0_eachOrder_98, amSI_1, amSI_2, amSI_3, amSI_s, amU_at, amIsR_ref, amIsR_null, amIsR_rf, amRf_some, amRf_none, amClr_int, amClr_ref, amClr_null, amClr_long, amClr_ra, amClr_rf, amFit_int, amFit_oref, amFit_aref, amFit_onull, amFit_anull, amOptSome, amOptNone, List.cons_append, List.nil_append, true_and, and_true, true_implies, not_true_eq_false, not_false_eq_true, false_implies, and_self, Nat.add_zero, Nat.zero_add, ne_eq, Prod.mk.injEq, amC01_0, amC01_1, amC01_nb, amNb0, amNb1, amTcpI_d, Nat.reduceLeDiff, Nat.reduceAdd, Nat.reduceSub, Nat.reduceEqDiff, Nat.le_refl, amN0le, hR.s, hR.r, amLeI, amLtI, amEqI, amLe0, amGt0, amEq0, amNotPosI, amGe0, amVI, amCl_nI, amAdd, amSub, amMul, tX1_many_d, mm, q, e9]
        exact amRet.of (by decide) (by decide) this
  refine goX0_eachOrder hF 60 ?_
  simp (disch := omega) only [wX0_eachOrder_0, uX0_eachOrder_0, wX0_eachOrder_1, wX0_eachOrder_4, wX0_eachOrder_5, wX0_eachOrder_6, wX0_eachOrder_9, wX0_eachOrder_14, uX0_eachOrder_14, wX0_eachOrder_15, wX0_eachOrder_16, wX0_eachOrder_17, wX0_eachOrder_18, wX0_eachOrder_20, uX0_eachOrder_20, wX0_eachOrder_22, wX0_eachOrder_23, wX0_eachOrder_26, wX0_eachOrder_29, wX0_eachOrder_32, wX0_eachOrder_33, wX0_eachOrder_36, wX0_eachOrder_37, wX0_eachOrder_39, wX0_eachOrder_42, wX0_eachOrder_45, wX0_eachOrder_46, wX0_eachOrder_49, wX0_eachOrder_50, wX0_eachOrder_53, wX0_eachOrder_56, wX0_eachOrder_58, wX0_eachOrder_61, uX0_eachOrder_61, wX0_eachOrder_62, wX0_eachOrder_63, wX0_eachOrder_64, wX0_eachOrder_66, wX0_eachOrder_67, wX0_eachOrder_68, wX0_eachOrder_69, wX0_eachOrder_70, wX0_eachOrder_71, wX0_eachOrder_74, uX0_eachOrder_74, wX0_eachOrder_75, wX0_eachOrder_76, wX0_eachOrder_79, wX0_eachOrder_80, wX0_eachOrder_83, wX0_eachOrder_86, wX0_eachOrder_87, wX0_eachOrder_88, wX0_eachOrder_91, uX0_eachOrder_91, wX0_eachOrder_94, wX0_eachOrder_97, wX0_eachOrder_98, amSI_1, amSI_2, amSI_3, amSI_s, amU_at, amIsR_ref, amIsR_null, amIsR_rf, amRf_some, amRf_none, amClr_int, amClr_ref, amClr_null, amClr_long, amClr_ra, amClr_rf, amFit_int, amFit_oref, amFit_aref, amFit_onull, amFit_anull, amOptSome, amOptNone, List.cons_append, List.nil_append, true_and, and_true, true_implies, not_true_eq_false, not_false_eq_true, false_implies, and_self, Nat.add_zero, Nat.zero_add, ne_eq, Prod.mk.injEq, amC01_0, amC01_1, amC01_nb, amNb0, amNb1, amTcpI_d, Nat.reduceLeDiff, Nat.reduceAdd, Nat.reduceSub, Nat.reduceEqDiff, Nat.le_refl, amN0le, hR.s, hR.r, amLeI, amLtI, amEqI, amLe0, amGt0, amEq0, amNotPosI, amGe0, amVI, amCl_nI, amAdd, amSub, amMul, z]
  have := loop n 0 h.2.1 (by omega) hI hb
  exact this
