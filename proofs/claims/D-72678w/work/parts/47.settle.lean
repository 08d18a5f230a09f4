/-! settle; the questions, of the world -/
set_option maxRecDepth 100000
theorem pFr.op {h h' : amH} (f : pFr h h') : opFr h h' := by
  obtain ⟨f1, f2, f3, f4, f5⟩ := f
  exact ⟨f2, fun i hi => ⟨(f5 i hi).1, (f5 i hi).2.1, fun _ => (f5 i hi).2.2, fun h1 h2 h3 _ => (f3 i hi h1 h3).2.1⟩, fun j hj => f4 j (by omega)⟩
theorem RsW.ask {h h' : amH} {X : XS} (w : RsW h X) (f : pFr h h') : RsW h' X := by
  have hN := w.1.2.2.2
  refine w.op f.op (w.1.2.1.kept (fun i h1 h2 => (f.2.2.1 i (by omega) (by omega) (by omega)).2.1)) w.1.2.2.1 (w.2.2.2.1.mv (f.2.2.2.1 15 (by decide)) (f.2.2.2.2 41 (by omega)).2.2 (fun i hi => (f.2.2.1 i (by unfold pastC at hi; omega) (by unfold pastC at hi; omega) (by unfold pastC at hi; omega)).2.1)) w.2.2.2.2.1
theorem note_of2 {h : amH} {X : XS} {K : Option Value → amH → Prop} (w : RsW h X) (k : ∀ h', opFr h h' → rsAt h' → (∀ i : Nat, i ≠ 24 → ¬ pastC i → h'.2.1 i = h.2.1 i) → HsIs h'.2.1 25 X.1 → UnIs h'.2.1 h'.2.2.2.1 (noteU X.2.1 X.1) → K none h') : tX0_note [.ref 24] h K := by
  have hN := w.1.2.2.2
  rw [tX0_note_d]
  refine ⟨X.1, X.2.1, rfl, w.1.1, w.2.1, w.1.2.1, w.2.2.2.1, fun m' r' f1 f2 f3 f4 => ?_⟩
  have f : opFr h (amSR h m' r') := ⟨Nat.le_refl _, fun i hi => ⟨rfl, rfl, fun q => f3 i q, fun q1 _ _ q4 => f1 i q1 q4⟩, fun j hj => f2 j (by omega)⟩
  exact k _ f (f.at hN w.1.1) f1 (w.1.2.1.kept (fun i h1 h2 => f1 i (by omega) (by unfold pastC; omega))) f4
def settleL (S : HS) (w : Int32) : List Nat := if w = nI 0 then S.best.2.2 else S.grown.2.2
def settleR (X : XS) (w : Int32) : XS × Int32 := if ¬ (lN 0 ≤ w.toInt64 ∧ w.toInt64 ≤ lN 1) then (X, -1) else if X.1.ord.length = 0 ∨ ((settleL X.1 w).length = X.1.ord.length ∧ numL (settleL X.1 w) = numL X.1.ord) then (X, -2) else (actX X (X.1.setO (settleL X.1 w)), nI (numL (settleL X.1 w)))
theorem tX7_areAlike_d2 {b c : Nat} {h : amH} {K : Option Value → amH → Prop} : tX7_areAlike [.ref b, .ref c] h K = ∃ (l g : List Nat), bdAt h b ∧ bdIs h.2.1 b l ∧ bdAt h c ∧ bdIs h.2.1 c g ∧ K (some (.int (amC01 (l.length = g.length ∧ numL l = numL g)))) h := rfl
def tX0_settle : amT := fun as h K => match as with
  | [.ref a, .int x] => ∃ X : XS, a = (24 : Nat) ∧ RsW h X ∧ ∀ h', rsFr h h' → RsW h' (settleR X x).1 → K (some (.int (settleR X x).2)) h'
  | _ => False
/-! ReadingStages.settle(I)I -/
def kX0_settle : Nat → Bool := fun pc => pc == 20 || pc == 27 || pc == 61
def rX0_settle : List (Nat × amS) := [(4, 3, 0, 0, tX0_isIn), (17, 1, 1, 1, (amRecv 0 tX0_layBest)), (24, 1, 0, 0, (amRecv 0 tX0_layGrown)), (28, 1, 0, 0, amTget 0 0), (31, 1, 0, 0, (amRecv 1 tX1_many)), (38, 1, 0, 0, amTget 0 9), (42, 1, 0, 0, amTget 0 0), (45, 1, 0, 0, amTget 1 2), (48, 2, 0, 0, tX7_areAlike), (58, 1, 0, 0, (amRecv 0 tX0_note)), (62, 1, 0, 0, amTget 0 0), (65, 1, 0, 0, amTget 1 2), (69, 1, 0, 0, amTget 0 9), (72, 2, 0, 0, (amRecv 2 tX2_takeFrom)), (76, 1, 0, 0, amTget 0 9), (79, 1, 0, 0, (amRecv 2 tX7_number))]
def eX0_settle (ret : Option Value → amH → Nat → Nat → Prop) (F : amX) : Nat → amX := amWp cX0_settle kX0_settle (amLk rX0_settle) (some .int) 1 1 ret F
def sX0_settle (ret : Option Value → amH → Nat → Nat → Prop) (F : amX) : Nat → amX := amWs cX0_settle kX0_settle (amLk rX0_settle) (some .int) 1 1 ret F
theorem wX0_settle_0 {ret F n h k z} {v0 st x} : eX0_settle ret F (n + 1) 0 [v0, .int x] (st) h k z = (eX0_settle ret F n 1 [v0, .int x] (.int x :: st) h k z) := (amWp_dec rfl dX0_settle_0 rfl).trans rfl
theorem uX0_settle_0 {ret F n h k z} {v0 st x} : sX0_settle ret F n 0 [v0, .int x] (st) h k z = (eX0_settle ret F n 1 [v0, .int x] (.int x :: st) h k z) := (amWs_dec dX0_settle_0 rfl).trans rfl
theorem wX0_settle_1 {ret F n h k z} {v0 v1 st x} : eX0_settle ret F (n + 1) 1 [v0, v1] (.int x :: st) h k z = (eX0_settle ret F n 2 [v0, v1] (.long x.toInt64 :: st) h k z) := (amWp_dec rfl dX0_settle_1 rfl).trans rfl
theorem wX0_settle_2 {ret F n h k z} {v0 v1 st} : eX0_settle ret F (n + 1) 2 [v0, v1] (st) h k z = (eX0_settle ret F n 3 [v0, v1] (.long (lN 0) :: st) h k z) := (amWp_dec rfl dX0_settle_2 rfl).trans rfl
theorem wX0_settle_3 {ret F n h k z} {v0 v1 st} : eX0_settle ret F (n + 1) 3 [v0, v1] (st) h k z = (eX0_settle ret F n 4 [v0, v1] (.long (lN 1) :: st) h k z) := (amWp_dec rfl dX0_settle_3 rfl).trans rfl
theorem wX0_settle_4 {ret F n h k z} {v0 v1 x2 x1 x0} : eX0_settle ret F (n + 1) 4 [v0, v1] (.long x2 :: .long x1 :: .long x0 :: []) h k z = (k + 0 ≤ 1 ∧ z + 0 ≤ 1 ∧ tX0_isIn [.long x0, .long x1, .long x2] h (fun v h => eX0_settle ret F n 7 [v0, v1] (v.toList ++ ([])) h (k + 0) (z + 0))) := (amWp_dec rfl dX0_settle_4 rfl).trans (amS2 (Nat.le_of_ble_eq_true rfl) (Nat.le_of_ble_eq_true rfl))
theorem wX0_settle_7 {ret F n h k z} {v0 v1 st x} : eX0_settle ret F (n + 1) 7 [v0, v1] (.int x :: st) h k z = ((¬ x = 0 → eX0_settle ret F n 12 [v0, v1] (st) h k z) ∧ (x = 0 → eX0_settle ret F n 10 [v0, v1] (st) h k z)) := (amWp_dec rfl dX0_settle_7 rfl).trans rfl
theorem wX0_settle_10 {ret F n h k z} {v0 v1 st} : eX0_settle ret F (n + 1) 10 [v0, v1] (st) h k z = (eX0_settle ret F n 11 [v0, v1] (.int (-1) :: st) h k z) := (amWp_dec rfl dX0_settle_10 rfl).trans rfl
theorem wX0_settle_11 {ret F n h k z} {v0 v1 x} : eX0_settle ret F (n + 1) 11 [v0, v1] ([.int x]) h k z = (ret (some (.int x)) h k z) := (amWp_dec rfl dX0_settle_11 rfl).trans (amTrue ⟨_, rfl, rfl⟩)
theorem wX0_settle_12 {ret F n h k z} {v0 st x} : eX0_settle ret F (n + 1) 12 [v0, .int x] (st) h k z = (eX0_settle ret F n 13 [v0, .int x] (.int x :: st) h k z) := (amWp_dec rfl dX0_settle_12 rfl).trans rfl
theorem wX0_settle_13 {ret F n h k z} {v0 v1 st x} : eX0_settle ret F (n + 1) 13 [v0, v1] (.int x :: st) h k z = ((¬ x = 0 → eX0_settle ret F n 23 [v0, v1] (st) h k z) ∧ (x = 0 → eX0_settle ret F n 16 [v0, v1] (st) h k z)) := (amWp_dec rfl dX0_settle_13 rfl).trans rfl
theorem wX0_settle_16 {ret F n h k z} {v0 v1 st} : eX0_settle ret F (n + 1) 16 [v0, v1] (st) h k z = (amIsR v0 ∧ eX0_settle ret F n 17 [v0, v1] (v0 :: st) h k z) := (amWp_dec rfl dX0_settle_16 rfl).trans rfl
theorem wX0_settle_17 {ret F n h k z} {v0 v1 x0} : eX0_settle ret F (n + 1) 17 [v0, v1] (.ref x0 :: []) h k z = (k + 1 ≤ 1 ∧ z + 1 ≤ 1 ∧ h.1 x0 = (0, 0) ∧ tX0_layBest [.ref x0] h (fun v h => eX0_settle ret F n 20 [v0, v1] (v.toList ++ ([])) h (k + 1) (z + 1))) := (amWp_dec rfl dX0_settle_17 rfl).trans (amS2 (Nat.le_of_ble_eq_true rfl) (Nat.le_of_ble_eq_true rfl))
theorem wX0_settle_20 {ret F n ls st h k z} : eX0_settle ret F (n + 1) 20 ls st h k z = F 20 ls st h k z := amWp_cut rfl
theorem uX0_settle_20 {ret F n h k z} {v0 v1 st} : sX0_settle ret F n 20 [v0, v1] (st) h k z = (eX0_settle ret F n 27 [v0, v1] (st) h k z) := (amWs_dec dX0_settle_20 rfl).trans rfl
theorem wX0_settle_23 {ret F n h k z} {v0 v1 st} : eX0_settle ret F (n + 1) 23 [v0, v1] (st) h k z = (amIsR v0 ∧ eX0_settle ret F n 24 [v0, v1] (v0 :: st) h k z) := (amWp_dec rfl dX0_settle_23 rfl).trans rfl
theorem wX0_settle_24 {ret F n h k z} {v0 v1 x0} : eX0_settle ret F (n + 1) 24 [v0, v1] (.ref x0 :: []) h k z = (k + 0 ≤ 1 ∧ z + 0 ≤ 1 ∧ h.1 x0 = (0, 0) ∧ tX0_layGrown [.ref x0] h (fun v h => eX0_settle ret F n 27 [v0, v1] (v.toList ++ ([])) h (k + 0) (z + 0))) := (amWp_dec rfl dX0_settle_24 rfl).trans (amS2 (Nat.le_of_ble_eq_true rfl) (Nat.le_of_ble_eq_true rfl))
theorem wX0_settle_27 {ret F n ls st h k z} : eX0_settle ret F (n + 1) 27 ls st h k z = F 27 ls st h k z := amWp_cut rfl
theorem uX0_settle_27 {ret F n h k z} {v0 v1 st} : sX0_settle ret F n 27 [v0, v1] (st) h k z = (amIsR v0 ∧ eX0_settle ret F n 28 [v0, v1] (v0 :: st) h k z) := (amWs_dec dX0_settle_27 rfl).trans rfl
theorem wX0_settle_28 {ret F n h k z} {v0 v1 a} : eX0_settle ret F (n + 1) 28 [v0, v1] (.ref a :: []) h k z = (k + 0 ≤ 1 ∧ z + 0 ≤ 1 ∧ h.1 a = (0, 0) ∧ eX0_settle ret F n 31 [v0, v1] (va_rf (h.2.2.2.1 a 0) :: []) h (k + 0) (z + 0)) := (amWp_dec rfl dX0_settle_28 rfl).trans (amS2 (Nat.le_of_ble_eq_true rfl) (Nat.le_of_ble_eq_true rfl))
theorem wX0_settle_31 {ret F n h k z} {v0 v1 x0} : eX0_settle ret F (n + 1) 31 [v0, v1] (.ref x0 :: []) h k z = (k + 0 ≤ 1 ∧ z + 0 ≤ 1 ∧ h.1 x0 = (0, 1) ∧ tX1_many [.ref x0] h (fun v h => eX0_settle ret F n 34 [v0, v1] (v.toList ++ ([])) h (k + 0) (z + 0))) := (amWp_dec rfl dX0_settle_31 rfl).trans (amS2 (Nat.le_of_ble_eq_true rfl) (Nat.le_of_ble_eq_true rfl))
theorem wX0_settle_34 {ret F n h k z} {v0 v1 st x} : eX0_settle ret F (n + 1) 34 [v0, v1] (.int x :: st) h k z = ((x = 0 → eX0_settle ret F n 54 [v0, v1] (st) h k z) ∧ (¬ x = 0 → eX0_settle ret F n 37 [v0, v1] (st) h k z)) := (amWp_dec rfl dX0_settle_34 rfl).trans rfl
theorem wX0_settle_37 {ret F n h k z} {v0 v1 st} : eX0_settle ret F (n + 1) 37 [v0, v1] (st) h k z = (amIsR v0 ∧ eX0_settle ret F n 38 [v0, v1] (v0 :: st) h k z) := (amWp_dec rfl dX0_settle_37 rfl).trans rfl
theorem wX0_settle_38 {ret F n h k z} {v0 v1 a} : eX0_settle ret F (n + 1) 38 [v0, v1] (.ref a :: []) h k z = (k + 0 ≤ 1 ∧ z + 0 ≤ 1 ∧ h.1 a = (0, 0) ∧ eX0_settle ret F n 41 [v0, v1] (va_rf (h.2.2.2.1 a 9) :: []) h (k + 0) (z + 0)) := (amWp_dec rfl dX0_settle_38 rfl).trans (amS2 (Nat.le_of_ble_eq_true rfl) (Nat.le_of_ble_eq_true rfl))
theorem wX0_settle_41 {ret F n h k z} {v0 v1 st} : eX0_settle ret F (n + 1) 41 [v0, v1] (st) h k z = (amIsR v0 ∧ eX0_settle ret F n 42 [v0, v1] (v0 :: st) h k z) := (amWp_dec rfl dX0_settle_41 rfl).trans rfl
theorem wX0_settle_42 {ret F n h k z} {v0 v1 r0 a} : eX0_settle ret F (n + 1) 42 [v0, v1] (.ref a :: r0 :: []) h k z = (k + 0 ≤ 1 ∧ z + 0 ≤ 1 ∧ h.1 a = (0, 0) ∧ eX0_settle ret F n 45 [v0, v1] (va_rf (h.2.2.2.1 a 0) :: r0 :: []) h (k + 0) (z + 0)) := (amWp_dec rfl dX0_settle_42 rfl).trans (amS2 (Nat.le_of_ble_eq_true rfl) (Nat.le_of_ble_eq_true rfl))
theorem wX0_settle_45 {ret F n h k z} {v0 v1 r0 a} : eX0_settle ret F (n + 1) 45 [v0, v1] (.ref a :: r0 :: []) h k z = (k + 0 ≤ 1 ∧ z + 0 ≤ 1 ∧ h.1 a = (0, 1) ∧ eX0_settle ret F n 48 [v0, v1] (va_rf (h.2.2.2.1 a 2) :: r0 :: []) h (k + 0) (z + 0)) := (amWp_dec rfl dX0_settle_45 rfl).trans (amS2 (Nat.le_of_ble_eq_true rfl) (Nat.le_of_ble_eq_true rfl))
theorem wX0_settle_48 {ret F n h k z} {v0 v1 x1 x0} : eX0_settle ret F (n + 1) 48 [v0, v1] (.ref x1 :: .ref x0 :: []) h k z = (k + 0 ≤ 1 ∧ z + 0 ≤ 1 ∧ tX7_areAlike [.ref x0, .ref x1] h (fun v h => eX0_settle ret F n 51 [v0, v1] (v.toList ++ ([])) h (k + 0) (z + 0))) := (amWp_dec rfl dX0_settle_48 rfl).trans (amS2 (Nat.le_of_ble_eq_true rfl) (Nat.le_of_ble_eq_true rfl))
theorem wX0_settle_51 {ret F n h k z} {v0 v1 st x} : eX0_settle ret F (n + 1) 51 [v0, v1] (.int x :: st) h k z = ((x = 0 → eX0_settle ret F n 57 [v0, v1] (st) h k z) ∧ (¬ x = 0 → eX0_settle ret F n 54 [v0, v1] (st) h k z)) := (amWp_dec rfl dX0_settle_51 rfl).trans rfl
theorem wX0_settle_54 {ret F n h k z} {v0 v1 st} : eX0_settle ret F (n + 1) 54 [v0, v1] (st) h k z = (eX0_settle ret F n 56 [v0, v1] (.int (-2) :: st) h k z) := (amWp_dec rfl dX0_settle_54 rfl).trans rfl
theorem wX0_settle_56 {ret F n h k z} {v0 v1 x} : eX0_settle ret F (n + 1) 56 [v0, v1] ([.int x]) h k z = (ret (some (.int x)) h k z) := (amWp_dec rfl dX0_settle_56 rfl).trans (amTrue ⟨_, rfl, rfl⟩)
theorem wX0_settle_57 {ret F n h k z} {v0 v1 st} : eX0_settle ret F (n + 1) 57 [v0, v1] (st) h k z = (amIsR v0 ∧ eX0_settle ret F n 58 [v0, v1] (v0 :: st) h k z) := (amWp_dec rfl dX0_settle_57 rfl).trans rfl
theorem wX0_settle_58 {ret F n h k z} {v0 v1 x0} : eX0_settle ret F (n + 1) 58 [v0, v1] (.ref x0 :: []) h k z = (k + 0 ≤ 1 ∧ z + 0 ≤ 1 ∧ h.1 x0 = (0, 0) ∧ tX0_note [.ref x0] h (fun v h => eX0_settle ret F n 61 [v0, v1] (v.toList ++ ([])) h (k + 0) (z + 0))) := (amWp_dec rfl dX0_settle_58 rfl).trans (amS2 (Nat.le_of_ble_eq_true rfl) (Nat.le_of_ble_eq_true rfl))
theorem wX0_settle_61 {ret F n ls st h k z} : eX0_settle ret F (n + 1) 61 ls st h k z = F 61 ls st h k z := amWp_cut rfl
theorem uX0_settle_61 {ret F n h k z} {v0 v1 st} : sX0_settle ret F n 61 [v0, v1] (st) h k z = (amIsR v0 ∧ eX0_settle ret F n 62 [v0, v1] (v0 :: st) h k z) := (amWs_dec dX0_settle_61 rfl).trans rfl
theorem wX0_settle_62 {ret F n h k z} {v0 v1 a} : eX0_settle ret F (n + 1) 62 [v0, v1] (.ref a :: []) h k z = (k + 0 ≤ 1 ∧ z + 0 ≤ 1 ∧ h.1 a = (0, 0) ∧ eX0_settle ret F n 65 [v0, v1] (va_rf (h.2.2.2.1 a 0) :: []) h (k + 0) (z + 0)) := (amWp_dec rfl dX0_settle_62 rfl).trans (amS2 (Nat.le_of_ble_eq_true rfl) (Nat.le_of_ble_eq_true rfl))
theorem wX0_settle_65 {ret F n h k z} {v0 v1 a} : eX0_settle ret F (n + 1) 65 [v0, v1] (.ref a :: []) h k z = (k + 0 ≤ 1 ∧ z + 0 ≤ 1 ∧ h.1 a = (0, 1) ∧ eX0_settle ret F n 68 [v0, v1] (va_rf (h.2.2.2.1 a 2) :: []) h (k + 0) (z + 0)) := (amWp_dec rfl dX0_settle_65 rfl).trans (amS2 (Nat.le_of_ble_eq_true rfl) (Nat.le_of_ble_eq_true rfl))
theorem wX0_settle_68 {ret F n h k z} {v0 v1 st} : eX0_settle ret F (n + 1) 68 [v0, v1] (st) h k z = (amIsR v0 ∧ eX0_settle ret F n 69 [v0, v1] (v0 :: st) h k z) := (amWp_dec rfl dX0_settle_68 rfl).trans rfl
theorem wX0_settle_69 {ret F n h k z} {v0 v1 r0 a} : eX0_settle ret F (n + 1) 69 [v0, v1] (.ref a :: r0 :: []) h k z = (k + 0 ≤ 1 ∧ z + 0 ≤ 1 ∧ h.1 a = (0, 0) ∧ eX0_settle ret F n 72 [v0, v1] (va_rf (h.2.2.2.1 a 9) :: r0 :: []) h (k + 0) (z + 0)) := (amWp_dec rfl dX0_settle_69 rfl).trans (amS2 (Nat.le_of_ble_eq_true rfl) (Nat.le_of_ble_eq_true rfl))
theorem wX0_settle_72 {ret F n h k z} {v0 v1 x1 x0} : eX0_settle ret F (n + 1) 72 [v0, v1] (.ref x1 :: .ref x0 :: []) h k z = (k + 0 ≤ 1 ∧ z + 0 ≤ 1 ∧ h.1 x0 = (0, 2) ∧ tX2_takeFrom [.ref x0, .ref x1] h (fun v h => eX0_settle ret F n 75 [v0, v1] (v.toList ++ ([])) h (k + 0) (z + 0))) := (amWp_dec rfl dX0_settle_72 rfl).trans (amS2 (Nat.le_of_ble_eq_true rfl) (Nat.le_of_ble_eq_true rfl))
theorem wX0_settle_75 {ret F n h k z} {v0 v1 st} : eX0_settle ret F (n + 1) 75 [v0, v1] (st) h k z = (amIsR v0 ∧ eX0_settle ret F n 76 [v0, v1] (v0 :: st) h k z) := (amWp_dec rfl dX0_settle_75 rfl).trans rfl
theorem wX0_settle_76 {ret F n h k z} {v0 v1 a} : eX0_settle ret F (n + 1) 76 [v0, v1] (.ref a :: []) h k z = (k + 0 ≤ 1 ∧ z + 0 ≤ 1 ∧ h.1 a = (0, 0) ∧ eX0_settle ret F n 79 [v0, v1] (va_rf (h.2.2.2.1 a 9) :: []) h (k + 0) (z + 0)) := (amWp_dec rfl dX0_settle_76 rfl).trans (amS2 (Nat.le_of_ble_eq_true rfl) (Nat.le_of_ble_eq_true rfl))
theorem wX0_settle_79 {ret F n h k z} {v0 v1 x0} : eX0_settle ret F (n + 1) 79 [v0, v1] (.ref x0 :: []) h k z = (k + 0 ≤ 1 ∧ z + 0 ≤ 1 ∧ h.1 x0 = (0, 2) ∧ tX7_number [.ref x0] h (fun v h => eX0_settle ret F n 82 [v0, v1] (v.toList ++ ([])) h (k + 0) (z + 0))) := (amWp_dec rfl dX0_settle_79 rfl).trans (amS2 (Nat.le_of_ble_eq_true rfl) (Nat.le_of_ble_eq_true rfl))
theorem wX0_settle_82 {ret F n h k z} {v0 v1 x} : eX0_settle ret F (n + 1) 82 [v0, v1] ([.int x]) h k z = (ret (some (.int x)) h k z) := (amWp_dec rfl dX0_settle_82 rfl).trans (amTrue ⟨_, rfl, rfl⟩)
theorem evX0_settle (l : Launch) (G : amG) : ∀ pc S i sz, amLk rX0_settle pc = some S → decode cX0_settle pc = .ok (i, sz) → amSiteP pc G l yX0_settle.cls yX0_settle.name yX0_settle.desc (amRm 22 1 1) i sz S.1 S.2.1 S.2.2.1 S.2.2.2 := amLk_ok (by
  refine List.forall_mem_cons.mpr ⟨⟨_, _, dX0_settle_4, amSite.P (amSiteS (metX0_isIn l G) rfl (by decide) (by decide) (lw_S q382 q383 q86 q384) ⟨by decide +kernel, by decide +kernel, by decide +kernel⟩)⟩, ?_⟩
  refine List.forall_mem_cons.mpr ⟨⟨_, _, dX0_settle_17, amSite.P (amSiteV (C := RX0) (metX0_layBest l G) rfl (by decide) (by decide) (lw_V q385 q387 qs5 q86 q388) ⟨_, rfl, rfl⟩ ⟨rfl, by decide +kernel, by decide +kernel, by decide +kernel⟩)⟩, ?_⟩
  refine List.forall_mem_cons.mpr ⟨⟨_, _, dX0_settle_24, amSite.P (amSiteV (C := RX0) (metX0_layGrown l G) rfl (by decide) (by decide) (lw_V q498 q500 qs15 q86 q501) ⟨_, rfl, rfl⟩ ⟨rfl, by decide +kernel, by decide +kernel, by decide +kernel⟩)⟩, ?_⟩
  refine List.forall_mem_cons.mpr ⟨⟨_, _, dX0_settle_28, amSite.P (amSiteGet ⟨_, rfl, by decide, Or.inl q301⟩)⟩, ?_⟩
  refine List.forall_mem_cons.mpr ⟨⟨_, _, dX0_settle_31, amSite.P (amSiteV (C := RX1) (metX1_many l G) rfl (by decide) (by decide) (lw_V q478 q479 q480 q87 q481) ⟨_, rfl, rfl⟩ ⟨rfl, by decide +kernel, by decide +kernel, by decide +kernel⟩)⟩, ?_⟩
  refine List.forall_mem_cons.mpr ⟨⟨_, _, dX0_settle_38, amSite.P (amSiteGet ⟨_, rfl, by decide, Or.inl q310⟩)⟩, ?_⟩
  refine List.forall_mem_cons.mpr ⟨⟨_, _, dX0_settle_42, amSite.P (amSiteGet ⟨_, rfl, by decide, Or.inl q301⟩)⟩, ?_⟩
  refine List.forall_mem_cons.mpr ⟨⟨_, _, dX0_settle_45, amSite.P (amSiteGet ⟨_, rfl, by decide, Or.inr ⟨"ReadingStages", List.mem_of_getElem? (i := 4) rfl⟩⟩)⟩, ?_⟩
  refine List.forall_mem_cons.mpr ⟨⟨_, _, dX0_settle_48, amSite.P (amSiteS (metX7_areAlike l G) rfl (by decide) (by decide) (lw_S q957 q958 q99 q959) ⟨by decide +kernel, by decide +kernel, by decide +kernel⟩)⟩, ?_⟩
  refine List.forall_mem_cons.mpr ⟨⟨_, _, dX0_settle_58, amSite.P (amSiteV (C := RX0) (metX0_note l G) rfl (by decide) (by decide) (lw_V q881 q883 qs24 q86 q884) ⟨_, rfl, rfl⟩ ⟨rfl, by decide +kernel, by decide +kernel, by decide +kernel⟩)⟩, ?_⟩
  refine List.forall_mem_cons.mpr ⟨⟨_, _, dX0_settle_62, amSite.P (amSiteGet ⟨_, rfl, by decide, Or.inl q301⟩)⟩, ?_⟩
  refine List.forall_mem_cons.mpr ⟨⟨_, _, dX0_settle_65, amSite.P (amSiteGet ⟨_, rfl, by decide, Or.inr ⟨"ReadingStages", List.mem_of_getElem? (i := 4) rfl⟩⟩)⟩, ?_⟩
  refine List.forall_mem_cons.mpr ⟨⟨_, _, dX0_settle_69, amSite.P (amSiteGet ⟨_, rfl, by decide, Or.inl q310⟩)⟩, ?_⟩
  refine List.forall_mem_cons.mpr ⟨⟨_, _, dX0_settle_72, amSite.P (amSiteV (C := RX2) (metX2_takeFrom l G) rfl (by decide) (by decide) (lw_V q467 q468 q469 q88 q470) ⟨_, rfl, rfl⟩ ⟨rfl, by decide +kernel, by decide +kernel, by decide +kernel⟩)⟩, ?_⟩
  refine List.forall_mem_cons.mpr ⟨⟨_, _, dX0_settle_76, amSite.P (amSiteGet ⟨_, rfl, by decide, Or.inl q310⟩)⟩, ?_⟩
  refine List.forall_mem_cons.mpr ⟨⟨_, _, dX0_settle_79, amSite.P (amSiteD (C := RX2) (owner := "ReadingStages$Shelf") (x := ⟨"ReadingStages$Board", "number", "()I"⟩) (metX7_number l G) rfl (by decide) (by decide) q517 q99 q515 (List.mem_of_getElem? (i := 5) rfl) (List.mem_of_getElem? (i := 9) rfl) (List.mem_of_getElem? (i := 12) rfl) (List.mem_of_getElem? (i := 0) rfl) ⟨_, rfl, rfl⟩ ⟨by decide +kernel, by decide +kernel, by decide +kernel⟩)⟩, ?_⟩
  exact fun _ h => absurd h List.not_mem_nil)
theorem goX0_settle {ret F} (hF : amCld cX0_settle kX0_settle (amLk rX0_settle) (some .int) 1 1 ret F) (n : Nat) {pc ls st h k z} (q : sX0_settle ret F n pc ls st h k z) : F pc ls st h k z := hF.1 n pc ls st h k z q
theorem metX0_settle (l : Launch) (G : amG) : amMet l G yX0_settle (ws_ yX0_settle cX0_settle 2 (some .int)) 22 1 1 tX0_settle := by
  refine amMet_of (cut := kX0_settle) (by decide +kernel) (evX0_settle l G) ?_
  intro as h K hT
  match as, hT with
  | [.ref a, .int x], ⟨X, e1, w, hK⟩ =>
  refine ⟨Nat.le_of_ble_eq_true rfl, fun F hF => ?_⟩
  show F 0 [.ref a, .int x] [] h 0 0
  obtain ⟨a, rfl⟩ : ∃ i : Nat, i = a := ⟨_, rfl⟩
  subst e1
  have hR := w.1.1
  have hO := w.1.2.2.1
  have hN := w.1.2.2.2
  have key := hK
  by_cases q : lN 0 ≤ x.toInt64 ∧ x.toInt64 ≤ lN 1
  · obtain ⟨n, -, n1, rfl⟩ := (amInL (by decide) (by decide)).mp q
    rw [settleR, if_neg (fun z => z q)] at key
    have fin : ∀ h1 k z B, k ≤ 1 → z ≤ 1 → pFr h h1 → bestIs h1.2.1 B → B.2.2 = settleL X.1 (nI n) → List.Perm B.2.2 X.1.ord → F 27 [.ref 24, .int (nI n)] [] h1 k z := by
      intro h1 k z B hk hz f hb eB hp
      have w1 := w.ask f
      have fo := f.op.rs hN
      have hR := w1.1.1
      have hS := w1.1.2.1
      have hm := hS.many
      have n7 := hS.n7
      have hbd := hR.now.2.2.2.2.2.2
      have hbest := hR.best
      have b9 := hb.2.2.2.2
      rw [← eB] at key
      have neg2 : (X.1.ord.length = 0 ∨ (B.2.2.length = X.1.ord.length ∧ numL B.2.2 = numL X.1.ord)) → amRet 1 1 K (some (.int (-2))) h1 k z := fun e => by
        rw [if_pos e] at key
        exact amRet.of hk hz (key h1 fo w1)
      refine goX0_settle hF 60 ?_
      simp (disch := omega) only [wX0_settle_0, uX0_settle_0, wX0_settle_1, wX0_settle_2, wX0_settle_3, wX0_settle_4, wX0_settle_7, wX0_settle_10, wX0_settle_11, wX0_settle_12, wX0_settle_13, wX0_settle_16, wX0_settle_17, wX0_settle_20, uX0_settle_20, wX0_settle_23, wX0_settle_24, wX0_settle_27, uX0_settle_27, wX0_settle_28, wX0_settle_31, wX0_settle_34, wX0_settle_37, wX0_settle_38, wX0_settle_41, wX0_settle_42, wX0_settle_45, wX0_settle_48, wX0_settle_51, wX0_settle_54, wX0_settle_56, wX0_settle_57, wX0_settle_58, wX0_settle_61, uX0_settle_61, wX0_settle_62, wX0_settle_65, wX0_settle_68, wX0_settle_69, wX0_settle_72, wX0_settle_75, wX0_settle_76, wX0_settle_79, wX0_settle_82, amSI_1, amSI_2, amSI_3, amSI_s, amU_at, amIsR_ref, amIsR_null, amIsR_rf, amRf_some, amRf_none, amClr_int, amClr_ref, amClr_null, amClr_long, amClr_ra, amClr_rf, amFit_int, amFit_oref, amFit_aref, amFit_onull, amFit_anull, amOptSome, amOptNone, List.cons_append, List.nil_append, true_and, and_true, true_implies, not_true_eq_false, not_false_eq_true, false_implies, and_self, Nat.add_zero, Nat.zero_add, ne_eq, Prod.mk.injEq, amC01_0, amC01_1, amC01_nb, amNb0, amNb1, amTcpI_d, Nat.reduceLeDiff, Nat.reduceAdd, Nat.reduceSub, Nat.reduceEqDiff, Nat.le_refl, amN0le, hR.s, hR.r, tX1_many_d, hm, amEq0, tX7_areAlike_d, hk, hz]
      refine ⟨fun e => neg2 (Or.inl e), fun e => ⟨B.2.2, X.1.ord, hbest, b9, hbd, hS.ord, fun e2 => note_of2 w1 (fun h2 f2 hR2 f3 hS2 hU2 => ?_), fun e2 => neg2 (Or.inr (Classical.not_not.mp e2))⟩⟩
      have ne : ¬ (X.1.ord.length = 0 ∨ (B.2.2.length = X.1.ord.length ∧ numL B.2.2 = numL X.1.ord)) := by
        rintro (z | z)
        · exact e z
        · exact e2 z
      rw [if_neg ne] at key
      have hR := hR2
      have b2 : bdIs h2.2.1 39 B.2.2 := b9.kept (f3 39 (by decide) (by unfold pastC; decide)) (f3 40 (by decide) (by unfold pastC; decide))
      have hbd2 := hR2.now.2.2.2.2.2.2
      have hbest2 := hR2.best
      have bc : bdIs (bdCopy h2.2.1 28 39) 28 B.2.2 := bdCopy_is b2 (by decide)
      have fr : bdFr h2.2.1 (bdCopy h2.2.1 28 39) 28 := fun i hi => by simp (disch := omega) only [amU_at, amU_ne, amU_nj, amU_neR, up_ne, up_at, amSI_2, bdCopy]
      have b3 : bdIs (bdCopy h2.2.1 28 39) 39 B.2.2 := b2.kept (fr 39 (by decide)) (fr 40 (by decide))
      obtain ⟨g1, g2⟩ := w1.act f2 hU2 rfl fr.hs (hS2.setO fr hp.length_eq bc) (hO.setOp hp)
      have key := key _ (fo.tr g1) g2
      refine goX0_settle hF 60 ?_
      simp (disch := omega) only [wX0_settle_0, uX0_settle_0, wX0_settle_1, wX0_settle_2, wX0_settle_3, wX0_settle_4, wX0_settle_7, wX0_settle_10, wX0_settle_11, wX0_settle_12, wX0_settle_13, wX0_settle_16, wX0_settle_17, wX0_settle_20, uX0_settle_20, wX0_settle_23, wX0_settle_24, wX0_settle_27, uX0_settle_27, wX0_settle_28, wX0_settle_31, wX0_settle_34, wX0_settle_37, wX0_settle_38, wX0_settle_41, wX0_settle_42, wX0_settle_45, wX0_settle_48, wX0_settle_51, wX0_settle_54, wX0_settle_56, wX0_settle_57, wX0_settle_58, wX0_settle_61, uX0_settle_61, wX0_settle_62, wX0_settle_65, wX0_settle_68, wX0_settle_69, wX0_settle_72, wX0_settle_75, wX0_settle_76, wX0_settle_79, wX0_settle_82, amSI_1, amSI_2, amSI_3, amSI_s, amU_at, amIsR_ref, amIsR_null, amIsR_rf, amRf_some, amRf_none, amClr_int, amClr_ref, amClr_null, amClr_long, amClr_ra, amClr_rf, amFit_int, amFit_oref, amFit_aref, amFit_onull, amFit_anull, amOptSome, amOptNone, List.cons_append, List.nil_append, true_and, and_true, true_implies, not_true_eq_false, not_false_eq_true, false_implies, and_self, Nat.add_zero, Nat.zero_add, ne_eq, Prod.mk.injEq, amC01_0, amC01_1, amC01_nb, amNb0, amNb1, amTcpI_d, Nat.reduceLeDiff, Nat.reduceAdd, Nat.reduceSub, Nat.reduceEqDiff, Nat.le_refl, amN0le, hR.s, hR.r, tX2_takeFrom_d, hbd2, hbest2, hk, hz, tX7_number_d]
      exact ⟨B.2.2, hbest2, b3, amRet.of hk hz key⟩
    refine goX0_settle hF 60 ?_
    simp (disch := omega) only [wX0_settle_0, uX0_settle_0, wX0_settle_1, wX0_settle_2, wX0_settle_3, wX0_settle_4, wX0_settle_7, wX0_settle_10, wX0_settle_11, wX0_settle_12, wX0_settle_13, wX0_settle_16, wX0_settle_17, wX0_settle_20, uX0_settle_20, wX0_settle_23, wX0_settle_24, wX0_settle_27, uX0_settle_27, wX0_settle_28, wX0_settle_31, wX0_settle_34, wX0_settle_37, wX0_settle_38, wX0_settle_41, wX0_settle_42, wX0_settle_45, wX0_settle_48, wX0_settle_51, wX0_settle_54, wX0_settle_56, wX0_settle_57, wX0_settle_58, wX0_settle_61, uX0_settle_61, wX0_settle_62, wX0_settle_65, wX0_settle_68, wX0_settle_69, wX0_settle_72, wX0_settle_75, wX0_settle_76, wX0_settle_79, wX0_settle_82, amSI_1, amSI_2, amSI_3, amSI_s, amU_at, amIsR_ref, amIsR_null, amIsR_rf, amRf_some, amRf_none, amClr_int, amClr_ref, amClr_null, amClr_long, amClr_ra, amClr_rf, amFit_int, amFit_oref, amFit_aref, amFit_onull, amFit_anull, amOptSome, amOptNone, List.cons_append, List.nil_append, true_and, and_true, true_implies, not_true_eq_false, not_false_eq_true, false_implies, and_self, Nat.add_zero, Nat.zero_add, ne_eq, Prod.mk.injEq, amC01_0, amC01_1, amC01_nb, amNb0, amNb1, amTcpI_d, Nat.reduceLeDiff, Nat.reduceAdd, Nat.reduceSub, Nat.reduceEqDiff, Nat.le_refl, amN0le, hR.s, hR.r, tX0_isIn_d, amEq0]
    refine ⟨fun _ => ⟨fun e => ?_, fun e => ?_⟩, fun z => absurd q z⟩
    · rw [tX0_layGrown_d]
      refine ⟨X.1, rfl, w.1.ask, hO.src, fun m' f hb => ?_⟩
      exact fin (amSI h m') _ _ X.1.grown (by decide) (by decide) f hb (by rw [settleL, if_neg (fun y => e ((amEqI (by omega) (by decide)).mp y))]) (grown_perm hO)
    · rw [tX0_layBest_d]
      refine ⟨X.1, rfl, w.1.ask, fun h' f hb => ?_⟩
      have hR := f.1
      refine goX0_settle hF 60 ?_
      simp (disch := omega) only [wX0_settle_0, uX0_settle_0, wX0_settle_1, wX0_settle_2, wX0_settle_3, wX0_settle_4, wX0_settle_7, wX0_settle_10, wX0_settle_11, wX0_settle_12, wX0_settle_13, wX0_settle_16, wX0_settle_17, wX0_settle_20, uX0_settle_20, wX0_settle_23, wX0_settle_24, wX0_settle_27, uX0_settle_27, wX0_settle_28, wX0_settle_31, wX0_settle_34, wX0_settle_37, wX0_settle_38, wX0_settle_41, wX0_settle_42, wX0_settle_45, wX0_settle_48, wX0_settle_51, wX0_settle_54, wX0_settle_56, wX0_settle_57, wX0_settle_58, wX0_settle_61, uX0_settle_61, wX0_settle_62, wX0_settle_65, wX0_settle_68, wX0_settle_69, wX0_settle_72, wX0_settle_75, wX0_settle_76, wX0_settle_79, wX0_settle_82, amSI_1, amSI_2, amSI_3, amSI_s, amU_at, amIsR_ref, amIsR_null, amIsR_rf, amRf_some, amRf_none, amClr_int, amClr_ref, amClr_null, amClr_long, amClr_ra, amClr_rf, amFit_int, amFit_oref, amFit_aref, amFit_onull, amFit_anull, amOptSome, amOptNone, List.cons_append, List.nil_append, true_and, and_true, true_implies, not_true_eq_false, not_false_eq_true, false_implies, and_self, Nat.add_zero, Nat.zero_add, ne_eq, Prod.mk.injEq, amC01_0, amC01_1, amC01_nb, amNb0, amNb1, amTcpI_d, Nat.reduceLeDiff, Nat.reduceAdd, Nat.reduceSub, Nat.reduceEqDiff, Nat.le_refl, amN0le, hR.s, hR.r]
      exact fin h' _ _ X.1.best (by decide) (by decide) f hb (by rw [settleL, if_pos (by rw [e])]) (best_perm hO)
  · rw [settleR, if_pos q] at key
    refine goX0_settle hF 60 ?_
    simp (disch := omega) only [wX0_settle_0, uX0_settle_0, wX0_settle_1, wX0_settle_2, wX0_settle_3, wX0_settle_4, wX0_settle_7, wX0_settle_10, wX0_settle_11, wX0_settle_12, wX0_settle_13, wX0_settle_16, wX0_settle_17, wX0_settle_20, uX0_settle_20, wX0_settle_23, wX0_settle_24, wX0_settle_27, uX0_settle_27, wX0_settle_28, wX0_settle_31, wX0_settle_34, wX0_settle_37, wX0_settle_38, wX0_settle_41, wX0_settle_42, wX0_settle_45, wX0_settle_48, wX0_settle_51, wX0_settle_54, wX0_settle_56, wX0_settle_57, wX0_settle_58, wX0_settle_61, uX0_settle_61, wX0_settle_62, wX0_settle_65, wX0_settle_68, wX0_settle_69, wX0_settle_72, wX0_settle_75, wX0_settle_76, wX0_settle_79, wX0_settle_82, amSI_1, amSI_2, amSI_3, amSI_s, amU_at, amIsR_ref, amIsR_null, amIsR_rf, amRf_some, amRf_none, amClr_int, amClr_ref, amClr_null, amClr_long, amClr_ra, amClr_rf, amFit_int, amFit_oref, amFit_aref, amFit_onull, amFit_anull, amOptSome, amOptNone, List.cons_append, List.nil_append, true_and, and_true, true_implies, not_true_eq_false, not_false_eq_true, false_implies, and_self, Nat.add_zero, Nat.zero_add, ne_eq, Prod.mk.injEq, amC01_0, amC01_1, amC01_nb, amNb0, amNb1, amTcpI_d, Nat.reduceLeDiff, Nat.reduceAdd, Nat.reduceSub, Nat.reduceEqDiff, Nat.le_refl, amN0le, hR.s, hR.r, tX0_isIn_d]
    exact ⟨fun z => absurd (Classical.not_not.mp z) q, fun _ => amRet.of (by decide) (by decide) (key h (rsFr.rf h) w)⟩
theorem tX0_settle_d {a : Nat} {x : Int32} {h : amH} {K : Option Value → amH → Prop} : tX0_settle [.ref a, .int x] h K = ∃ X : XS, a = (24 : Nat) ∧ RsW h X ∧ ∀ h', rsFr h h' → RsW h' (settleR X x).1 → K (some (.int (settleR X x).2)) h' := rfl
/-! the questions, of the world -/
theorem RsW.rdk {h : amH} {X : XS} (w : RsW h X) {m : Nat → Nat → Int32} (f : rdFr h.2.1 m) : rsFr h (amSI h m) ∧ RsW (amSI h m) X := ⟨(opFr.rd f).rs w.1.2.2.2, w.rd f⟩
theorem RsW.askk {h h' : amH} {X : XS} (w : RsW h X) (f : pFr h h') : rsFr h h' ∧ RsW h' X := ⟨f.op.rs w.1.2.2.2, w.ask f⟩
