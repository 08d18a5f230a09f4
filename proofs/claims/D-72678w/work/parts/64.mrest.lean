/-! the reference: drift, undo, seed, image, restore, type -/
set_option maxRecDepth 100000
/-- the world after any change of the row and the past -/
theorem MdW.of {h : amH} {X : XS} (w : MdW h X) {m : Nat → Nat → Int32} {S' : HS} {U' : List HS} (r1 : RwIs m 125 0 S') (s1 : UnM m U') (e : ∀ i : Nat, i ≠ 124 → i ≠ 125 → i ≠ 126 → i ≠ 142 → (i < 134 ∨ 141 ≤ i) → m i = h.2.1 i) (e5 : m 124 5 = h.2.1 124 5) (e7 : m 124 7 = h.2.1 124 7) : msFr h (amSI h m) ∧ MdW (amSI h m) (S', U', X.2.2) := by
  refine ⟨msFr.si (fun i hi => e i (by omega) (by omega) (by omega) (by omega) (by omega)), w.1, r1, s1, w.2.2.2.1.kept e5 (e 127 (by decide) (by decide) (by decide) (by decide) (by decide)) (e 128 (by decide) (by decide) (by decide) (by decide) (by decide)), w.2.2.2.2.1.kept e7 (e 129 (by decide) (by decide) (by decide) (by decide) (by decide)), w.2.2.2.2.2.kept (e 130 (by decide) (by decide) (by decide) (by decide) (by decide)) (e 131 (by decide) (by decide) (by decide) (by decide) (by decide)) rfl⟩
theorem msFr.tr {h h2 h3 : amH} (a : msFr h h2) (b : msFr h2 h3) : msFr h h3 := ⟨b.1.trans a.1, b.2.1.trans a.2.1, b.2.2.1.trans a.2.2.1, fun i hi => (b.2.2.2.1 i hi).trans (a.2.2.2.1 i hi), fun i h1 h2 => (b.2.2.2.2 i h1 h2).trans (a.2.2.2.2 i h1 h2)⟩
def tX6_drift : amT := fun as h K => match as with
  | [.ref t, .int x] => ∃ X : XS, t = (124 : Nat) ∧ MdW h X ∧ hsOk X.1 ∧ ∀ h', msFr h h' → MdW h' (driftR X x).1 → K (some (.int (driftR X x).2)) h'
  | _ => False
/-! ReadingStagesModel.drift(I)I -/
def kX6_drift : Nat → Bool := fun pc => pc == 14 || pc == 16 || pc == 25 || pc == 29 || pc == 36 || pc == 44 || pc == 58
def rX6_drift : List (Nat × amS) := [(3, 0, 0, 0, amTcon (.long (40))), (6, 3, 0, 0, tX6_in), (22, 1, 0, 0, (amRecv 6 tX6_holds)), (26, 1, 0, 0, (amRecv 6 tX6_notes)), (30, 0, 0, 0, amTcon (.int (65536))), (33, 2, 0, 0, (amRecv 6 tX6_draws)), (41, 2, 0, 0, (amRecv 6 tX6_draws)), (51, 0, 0, 0, amTcon (.int (1048576))), (55, 3, 0, 0, (amRecv 6 tX6_does)), (58, 2, 0, 0, amTput 6 26), (68, 1, 0, 0, amTget 6 0)]
def eX6_drift (ret : Option Value → amH → Nat → Nat → Prop) (F : amX) : Nat → amX := amWp cX6_drift kX6_drift (amLk rX6_drift) (some .int) 0 0 ret F
def sX6_drift (ret : Option Value → amH → Nat → Nat → Prop) (F : amX) : Nat → amX := amWs cX6_drift kX6_drift (amLk rX6_drift) (some .int) 0 0 ret F
theorem wX6_drift_0 {ret F n h} {v0 v2 v3 v4 st x} : eX6_drift ret F (n + 1) 0 [v0, .int x, v2, v3, v4] (st) h 0 0 = (eX6_drift ret F n 1 [v0, .int x, v2, v3, v4] (.int x :: st) h 0 0) := (amWp_dec rfl dX6_drift_0 rfl).trans rfl
theorem uX6_drift_0 {ret F n h} {v0 v2 v3 v4 st x} : sX6_drift ret F n 0 [v0, .int x, v2, v3, v4] (st) h 0 0 = (eX6_drift ret F n 1 [v0, .int x, v2, v3, v4] (.int x :: st) h 0 0) := (amWs_dec dX6_drift_0 rfl).trans rfl
theorem wX6_drift_1 {ret F n h} {v0 v1 v2 v3 v4 st x} : eX6_drift ret F (n + 1) 1 [v0, v1, v2, v3, v4] (.int x :: st) h 0 0 = (eX6_drift ret F n 2 [v0, v1, v2, v3, v4] (.long x.toInt64 :: st) h 0 0) := (amWp_dec rfl dX6_drift_1 rfl).trans rfl
theorem wX6_drift_2 {ret F n h} {v0 v1 v2 v3 v4 st} : eX6_drift ret F (n + 1) 2 [v0, v1, v2, v3, v4] (st) h 0 0 = (eX6_drift ret F n 3 [v0, v1, v2, v3, v4] (.long (lN 1) :: st) h 0 0) := (amWp_dec rfl dX6_drift_2 rfl).trans rfl
theorem wX6_drift_3 {ret F n h} {v0 v1 v2 v3 v4 r0 r1} : eX6_drift ret F (n + 1) 3 [v0, v1, v2, v3, v4] (r0 :: r1 :: []) h 0 0 = (eX6_drift ret F n 6 [v0, v1, v2, v3, v4] (.long (lN 40) :: r0 :: r1 :: []) h 0 0) := (amWp_dec rfl dX6_drift_3 rfl).trans (amS4 (Nat.le_of_ble_eq_true rfl) (Nat.le_of_ble_eq_true rfl) (Nat.le_of_ble_eq_true rfl) (Nat.le_of_ble_eq_true rfl))
theorem wX6_drift_6 {ret F n h} {v0 v1 v2 v3 v4 x2 x1 x0} : eX6_drift ret F (n + 1) 6 [v0, v1, v2, v3, v4] (.long x2 :: .long x1 :: .long x0 :: []) h 0 0 = (tX6_in [.long x0, .long x1, .long x2] h (fun v h => eX6_drift ret F n 9 [v0, v1, v2, v3, v4] (v.toList ++ ([])) h 0 0)) := (amWp_dec rfl dX6_drift_6 rfl).trans (amS4 (Nat.le_of_ble_eq_true rfl) (Nat.le_of_ble_eq_true rfl) (Nat.le_of_ble_eq_true rfl) (Nat.le_of_ble_eq_true rfl))
theorem wX6_drift_9 {ret F n h} {v0 v1 v2 v3 v4 st x} : eX6_drift ret F (n + 1) 9 [v0, v1, v2, v3, v4] (.int x :: st) h 0 0 = ((¬ x = 0 → eX6_drift ret F n 14 [v0, v1, v2, v3, v4] (st) h 0 0) ∧ (x = 0 → eX6_drift ret F n 12 [v0, v1, v2, v3, v4] (st) h 0 0)) := (amWp_dec rfl dX6_drift_9 rfl).trans rfl
theorem wX6_drift_12 {ret F n h} {v0 v1 v2 v3 v4 st} : eX6_drift ret F (n + 1) 12 [v0, v1, v2, v3, v4] (st) h 0 0 = (eX6_drift ret F n 13 [v0, v1, v2, v3, v4] (.int (-1) :: st) h 0 0) := (amWp_dec rfl dX6_drift_12 rfl).trans rfl
theorem wX6_drift_13 {ret F n h} {v0 v1 v2 v3 v4 x} : eX6_drift ret F (n + 1) 13 [v0, v1, v2, v3, v4] ([.int x]) h 0 0 = (ret (some (.int x)) h 0 0) := (amWp_dec rfl dX6_drift_13 rfl).trans (amTrue ⟨_, rfl, rfl⟩)
theorem wX6_drift_14 {ret F n ls st h k z} : eX6_drift ret F (n + 1) 14 ls st h k z = F 14 ls st h k z := amWp_cut rfl
theorem uX6_drift_14 {ret F n h} {v0 v1 v2 v3 v4 st} : sX6_drift ret F n 14 [v0, v1, v2, v3, v4] (st) h 0 0 = (eX6_drift ret F n 15 [v0, v1, v2, v3, v4] (.int (nI 0) :: st) h 0 0) := (amWs_dec dX6_drift_14 rfl).trans rfl
theorem wX6_drift_15 {ret F n h} {v0 v1 v2 v3 v4 st x} : eX6_drift ret F (n + 1) 15 [v0, v1, v2, v3, v4] (.int x :: st) h 0 0 = (eX6_drift ret F n 16 [v0, amClr v1, .int x, v3, v4] (st) h 0 0) := (amWp_dec rfl dX6_drift_15 rfl).trans (amTrue (Nat.le_of_ble_eq_true rfl))
theorem wX6_drift_16 {ret F n ls st h k z} : eX6_drift ret F (n + 1) 16 ls st h k z = F 16 ls st h k z := amWp_cut rfl
theorem uX6_drift_16 {ret F n h} {v0 v1 v3 v4 st x} : sX6_drift ret F n 16 [v0, v1, .int x, v3, v4] (st) h 0 0 = (eX6_drift ret F n 17 [v0, v1, .int x, v3, v4] (.int x :: st) h 0 0) := (amWs_dec dX6_drift_16 rfl).trans rfl
theorem wX6_drift_17 {ret F n h} {v0 v2 v3 v4 st x} : eX6_drift ret F (n + 1) 17 [v0, .int x, v2, v3, v4] (st) h 0 0 = (eX6_drift ret F n 18 [v0, .int x, v2, v3, v4] (.int x :: st) h 0 0) := (amWp_dec rfl dX6_drift_17 rfl).trans rfl
theorem wX6_drift_18 {ret F n h} {v0 v1 v2 v3 v4 st y x} : eX6_drift ret F (n + 1) 18 [v0, v1, v2, v3, v4] (.int y :: .int x :: st) h 0 0 = ((y ≤ x → eX6_drift ret F n 67 [v0, v1, v2, v3, v4] (st) h 0 0) ∧ (¬ y ≤ x → eX6_drift ret F n 21 [v0, v1, v2, v3, v4] (st) h 0 0)) := (amWp_dec rfl dX6_drift_18 rfl).trans rfl
theorem wX6_drift_21 {ret F n h} {v0 v1 v2 v3 v4 st} : eX6_drift ret F (n + 1) 21 [v0, v1, v2, v3, v4] (st) h 0 0 = (amIsR v0 ∧ eX6_drift ret F n 22 [v0, v1, v2, v3, v4] (v0 :: st) h 0 0) := (amWp_dec rfl dX6_drift_21 rfl).trans rfl
theorem wX6_drift_22 {ret F n h} {v0 v1 v2 v3 v4 x0} : eX6_drift ret F (n + 1) 22 [v0, v1, v2, v3, v4] (.ref x0 :: []) h 0 0 = (h.1 x0 = (0, 6) ∧ tX6_holds [.ref x0] h (fun v h => eX6_drift ret F n 25 [v0, v1, v2, v3, v4] (v.toList ++ ([])) h 0 0)) := (amWp_dec rfl dX6_drift_22 rfl).trans (amS4 (Nat.le_of_ble_eq_true rfl) (Nat.le_of_ble_eq_true rfl) (Nat.le_of_ble_eq_true rfl) (Nat.le_of_ble_eq_true rfl))
theorem wX6_drift_25 {ret F n ls st h k z} : eX6_drift ret F (n + 1) 25 ls st h k z = F 25 ls st h k z := amWp_cut rfl
theorem uX6_drift_25 {ret F n h} {v0 v1 v2 v3 v4 st} : sX6_drift ret F n 25 [v0, v1, v2, v3, v4] (st) h 0 0 = (amIsR v0 ∧ eX6_drift ret F n 26 [v0, v1, v2, v3, v4] (v0 :: st) h 0 0) := (amWs_dec dX6_drift_25 rfl).trans rfl
theorem wX6_drift_26 {ret F n h} {v0 v1 v2 v3 v4 x0} : eX6_drift ret F (n + 1) 26 [v0, v1, v2, v3, v4] (.ref x0 :: []) h 0 0 = (h.1 x0 = (0, 6) ∧ tX6_notes [.ref x0] h (fun v h => eX6_drift ret F n 29 [v0, v1, v2, v3, v4] (v.toList ++ ([])) h 0 0)) := (amWp_dec rfl dX6_drift_26 rfl).trans (amS4 (Nat.le_of_ble_eq_true rfl) (Nat.le_of_ble_eq_true rfl) (Nat.le_of_ble_eq_true rfl) (Nat.le_of_ble_eq_true rfl))
theorem wX6_drift_29 {ret F n ls st h k z} : eX6_drift ret F (n + 1) 29 ls st h k z = F 29 ls st h k z := amWp_cut rfl
theorem uX6_drift_29 {ret F n h} {v0 v1 v2 v3 v4 st} : sX6_drift ret F n 29 [v0, v1, v2, v3, v4] (st) h 0 0 = (amIsR v0 ∧ eX6_drift ret F n 30 [v0, v1, v2, v3, v4] (v0 :: st) h 0 0) := (amWs_dec dX6_drift_29 rfl).trans rfl
theorem wX6_drift_30 {ret F n h} {v0 v1 v2 v3 v4 r0} : eX6_drift ret F (n + 1) 30 [v0, v1, v2, v3, v4] (r0 :: []) h 0 0 = (eX6_drift ret F n 33 [v0, v1, v2, v3, v4] (.int (nI 65536) :: r0 :: []) h 0 0) := (amWp_dec rfl dX6_drift_30 rfl).trans (amS4 (Nat.le_of_ble_eq_true rfl) (Nat.le_of_ble_eq_true rfl) (Nat.le_of_ble_eq_true rfl) (Nat.le_of_ble_eq_true rfl))
theorem wX6_drift_33 {ret F n h} {v0 v1 v2 v3 v4 x1 x0} : eX6_drift ret F (n + 1) 33 [v0, v1, v2, v3, v4] (.int x1 :: .ref x0 :: []) h 0 0 = (h.1 x0 = (0, 6) ∧ tX6_draws [.ref x0, .int x1] h (fun v h => eX6_drift ret F n 36 [v0, v1, v2, v3, v4] (v.toList ++ ([])) h 0 0)) := (amWp_dec rfl dX6_drift_33 rfl).trans (amS4 (Nat.le_of_ble_eq_true rfl) (Nat.le_of_ble_eq_true rfl) (Nat.le_of_ble_eq_true rfl) (Nat.le_of_ble_eq_true rfl))
theorem wX6_drift_36 {ret F n ls st h k z} : eX6_drift ret F (n + 1) 36 ls st h k z = F 36 ls st h k z := amWp_cut rfl
theorem uX6_drift_36 {ret F n h} {v0 v1 v2 v3 v4 st x} : sX6_drift ret F n 36 [v0, v1, v2, v3, v4] (.int x :: st) h 0 0 = (eX6_drift ret F n 37 [v0, v1, amClr v2, .int x, v4] (st) h 0 0) := (amWs_dec dX6_drift_36 rfl).trans (amTrue (Nat.le_of_ble_eq_true rfl))
theorem wX6_drift_37 {ret F n h} {v0 v1 v2 v3 v4 st} : eX6_drift ret F (n + 1) 37 [v0, v1, v2, v3, v4] (st) h 0 0 = (amIsR v0 ∧ eX6_drift ret F n 38 [v0, v1, v2, v3, v4] (v0 :: st) h 0 0) := (amWp_dec rfl dX6_drift_37 rfl).trans rfl
theorem wX6_drift_38 {ret F n h} {v0 v1 v2 v3 v4 st} : eX6_drift ret F (n + 1) 38 [v0, v1, v2, v3, v4] (st) h 0 0 = (eX6_drift ret F n 41 [v0, v1, v2, v3, v4] (.int (nI 2048) :: st) h 0 0) := (amWp_dec rfl dX6_drift_38 rfl).trans rfl
theorem wX6_drift_41 {ret F n h} {v0 v1 v2 v3 v4 x1 x0} : eX6_drift ret F (n + 1) 41 [v0, v1, v2, v3, v4] (.int x1 :: .ref x0 :: []) h 0 0 = (h.1 x0 = (0, 6) ∧ tX6_draws [.ref x0, .int x1] h (fun v h => eX6_drift ret F n 44 [v0, v1, v2, v3, v4] (v.toList ++ ([])) h 0 0)) := (amWp_dec rfl dX6_drift_41 rfl).trans (amS4 (Nat.le_of_ble_eq_true rfl) (Nat.le_of_ble_eq_true rfl) (Nat.le_of_ble_eq_true rfl) (Nat.le_of_ble_eq_true rfl))
theorem wX6_drift_44 {ret F n ls st h k z} : eX6_drift ret F (n + 1) 44 ls st h k z = F 44 ls st h k z := amWp_cut rfl
theorem uX6_drift_44 {ret F n h} {v0 v1 v2 v3 v4 st x} : sX6_drift ret F n 44 [v0, v1, v2, v3, v4] (.int x :: st) h 0 0 = (eX6_drift ret F n 46 [v0, v1, v2, amClr v3, .int x] (st) h 0 0) := (amWs_dec dX6_drift_44 rfl).trans (amTrue (Nat.le_of_ble_eq_true rfl))
theorem wX6_drift_46 {ret F n h} {v0 v1 v2 v3 v4 st} : eX6_drift ret F (n + 1) 46 [v0, v1, v2, v3, v4] (st) h 0 0 = (amIsR v0 ∧ eX6_drift ret F n 47 [v0, v1, v2, v3, v4] (v0 :: st) h 0 0) := (amWp_dec rfl dX6_drift_46 rfl).trans rfl
theorem wX6_drift_47 {ret F n h} {v0 v1 v2 v3 v4 st} : eX6_drift ret F (n + 1) 47 [v0, v1, v2, v3, v4] (st) h 0 0 = (amIsR v0 ∧ eX6_drift ret F n 48 [v0, v1, v2, v3, v4] (v0 :: st) h 0 0) := (amWp_dec rfl dX6_drift_47 rfl).trans rfl
theorem wX6_drift_48 {ret F n h} {v0 v1 v2 v4 st x} : eX6_drift ret F (n + 1) 48 [v0, v1, v2, .int x, v4] (st) h 0 0 = (eX6_drift ret F n 49 [v0, v1, v2, .int x, v4] (.int x :: st) h 0 0) := (amWp_dec rfl dX6_drift_48 rfl).trans rfl
theorem wX6_drift_49 {ret F n h} {v0 v1 v2 v3 st x} : eX6_drift ret F (n + 1) 49 [v0, v1, v2, v3, .int x] (st) h 0 0 = (eX6_drift ret F n 51 [v0, v1, v2, v3, .int x] (.int x :: st) h 0 0) := (amWp_dec rfl dX6_drift_49 rfl).trans rfl
theorem wX6_drift_51 {ret F n h} {v0 v1 v2 v3 v4 r0 r1 r2 r3} : eX6_drift ret F (n + 1) 51 [v0, v1, v2, v3, v4] (r0 :: r1 :: r2 :: r3 :: []) h 0 0 = (eX6_drift ret F n 54 [v0, v1, v2, v3, v4] (.int (nI 1048576) :: r0 :: r1 :: r2 :: r3 :: []) h 0 0) := (amWp_dec rfl dX6_drift_51 rfl).trans (amS4 (Nat.le_of_ble_eq_true rfl) (Nat.le_of_ble_eq_true rfl) (Nat.le_of_ble_eq_true rfl) (Nat.le_of_ble_eq_true rfl))
theorem wX6_drift_54 {ret F n h} {v0 v1 v2 v3 v4 st y x} : eX6_drift ret F (n + 1) 54 [v0, v1, v2, v3, v4] (.int y :: .int x :: st) h 0 0 = (¬ y = 0 ∧ eX6_drift ret F n 55 [v0, v1, v2, v3, v4] (.int (x - x / y * y) :: st) h 0 0) := (amWp_dec rfl dX6_drift_54 rfl).trans rfl
theorem wX6_drift_55 {ret F n h} {v0 v1 v2 v3 v4 x2 x1 x0 r0} : eX6_drift ret F (n + 1) 55 [v0, v1, v2, v3, v4] (.int x2 :: .int x1 :: .ref x0 :: r0 :: []) h 0 0 = (h.1 x0 = (0, 6) ∧ tX6_does [.ref x0, .int x1, .int x2] h (fun v h => eX6_drift ret F n 58 [v0, v1, v2, v3, v4] (v.toList ++ (r0 :: [])) h 0 0)) := (amWp_dec rfl dX6_drift_55 rfl).trans (amS4 (Nat.le_of_ble_eq_true rfl) (Nat.le_of_ble_eq_true rfl) (Nat.le_of_ble_eq_true rfl) (Nat.le_of_ble_eq_true rfl))
theorem wX6_drift_58 {ret F n ls st h k z} : eX6_drift ret F (n + 1) 58 ls st h k z = F 58 ls st h k z := amWp_cut rfl
theorem uX6_drift_58 {ret F n h} {v0 v1 v2 v3 v4 x a} : sX6_drift ret F n 58 [v0, v1, v2, v3, v4] (.int x :: .ref a :: []) h 0 0 = (h.1 a = (0, 6) ∧ amN0 ≤ a ∧ amFit .int (.int x) ∧ eX6_drift ret F n 61 [v0, v1, v2, v3, v4] ([]) (amSI h (amU h.2.1 a 26 x)) 0 0) := (amWs_dec dX6_drift_58 rfl).trans (amS4 (Nat.le_of_ble_eq_true rfl) (Nat.le_of_ble_eq_true rfl) (Nat.le_of_ble_eq_true rfl) (Nat.le_of_ble_eq_true rfl))
theorem wX6_drift_61 {ret F n h} {v0 v1 v3 v4 st x} : eX6_drift ret F (n + 1) 61 [v0, v1, .int x, v3, v4] (st) h 0 0 = (eX6_drift ret F n 64 [v0, amClr v1, .int (x + nI 1), v3, v4] (st) h 0 0) := (amWp_dec rfl dX6_drift_61 rfl).trans rfl
theorem wX6_drift_64 {ret F n h} {v0 v1 v2 v3 v4 st} : eX6_drift ret F (n + 1) 64 [v0, v1, v2, v3, v4] (st) h 0 0 = (eX6_drift ret F n 16 [v0, v1, v2, v3, v4] (st) h 0 0) := (amWp_dec rfl dX6_drift_64 rfl).trans rfl
theorem wX6_drift_67 {ret F n h} {v0 v1 v2 v3 v4 st} : eX6_drift ret F (n + 1) 67 [v0, v1, v2, v3, v4] (st) h 0 0 = (amIsR v0 ∧ eX6_drift ret F n 68 [v0, v1, v2, v3, v4] (v0 :: st) h 0 0) := (amWp_dec rfl dX6_drift_67 rfl).trans rfl
theorem wX6_drift_68 {ret F n h} {v0 v1 v2 v3 v4 a} : eX6_drift ret F (n + 1) 68 [v0, v1, v2, v3, v4] (.ref a :: []) h 0 0 = (h.1 a = (0, 6) ∧ eX6_drift ret F n 71 [v0, v1, v2, v3, v4] (va_rf (h.2.2.2.1 a 0) :: []) h 0 0) := (amWp_dec rfl dX6_drift_68 rfl).trans (amS4 (Nat.le_of_ble_eq_true rfl) (Nat.le_of_ble_eq_true rfl) (Nat.le_of_ble_eq_true rfl) (Nat.le_of_ble_eq_true rfl))
theorem wX6_drift_71 {ret F n h} {v0 v1 v2 v3 v4 st} : eX6_drift ret F (n + 1) 71 [v0, v1, v2, v3, v4] (st) h 0 0 = (eX6_drift ret F n 72 [v0, v1, v2, v3, v4] (.int (nI 0) :: st) h 0 0) := (amWp_dec rfl dX6_drift_71 rfl).trans rfl
theorem wX6_drift_72 {ret F n h} {v0 v1 v2 v3 v4 st x a} : eX6_drift ret F (n + 1) 72 [v0, v1, v2, v3, v4] (.int x :: .ref a :: st) h 0 0 = ((h.1 a).1 = 1 ∧ vp_in x (h.1 a).2 ∧ eX6_drift ret F n 73 [v0, v1, v2, v3, v4] (.int (h.2.1 a x.toNatClampNeg) :: st) h 0 0) := (amWp_dec rfl dX6_drift_72 rfl).trans rfl
theorem wX6_drift_73 {ret F n h} {v0 v1 v2 v3 v4 x} : eX6_drift ret F (n + 1) 73 [v0, v1, v2, v3, v4] ([.int x]) h 0 0 = (ret (some (.int x)) h 0 0) := (amWp_dec rfl dX6_drift_73 rfl).trans (amTrue ⟨_, rfl, rfl⟩)
theorem evX6_drift (l : Launch) (G : amG) : ∀ pc S i sz, amLk rX6_drift pc = some S → decode cX6_drift pc = .ok (i, sz) → amSiteP pc G l yX6_drift.cls yX6_drift.name yX6_drift.desc (amRm 5 0 0) i sz S.1 S.2.1 S.2.2.1 S.2.2.2 := amLk_ok (by
  refine List.forall_mem_cons.mpr ⟨⟨_, _, dX6_drift_3, amSite.P (amSiteLdc2 q1651)⟩, ?_⟩
  refine List.forall_mem_cons.mpr ⟨⟨_, _, dX6_drift_6, amSite.P (amSiteS (metX6_in l G) rfl (by decide) (by decide) (lw_S q1381 q1382 q94 q1383) ⟨by decide +kernel, by decide +kernel, by decide +kernel⟩)⟩, ?_⟩
  refine List.forall_mem_cons.mpr ⟨⟨_, _, dX6_drift_22, amSite.P (amSiteV (C := RX6) (metX6_holds l G) rfl (by decide) (by decide) (lw_V q1509 q1511 qs60 q94 q1512) ⟨_, rfl, rfl⟩ ⟨rfl, by decide +kernel, by decide +kernel, by decide +kernel⟩)⟩, ?_⟩
  refine List.forall_mem_cons.mpr ⟨⟨_, _, dX6_drift_26, amSite.P (amSiteV (C := RX6) (metX6_notes l G) rfl (by decide) (by decide) (lw_V q1525 q1527 qs63 q94 q1528) ⟨_, rfl, rfl⟩ ⟨rfl, by decide +kernel, by decide +kernel, by decide +kernel⟩)⟩, ?_⟩
  refine List.forall_mem_cons.mpr ⟨⟨_, _, dX6_drift_30, amSite.P (amSiteLdcw q1652)⟩, ?_⟩
  refine List.forall_mem_cons.mpr ⟨⟨_, _, dX6_drift_33, amSite.P (amSiteV (C := RX6) (metX6_draws l G) rfl (by decide) (by decide) (lw_V q1653 q1655 qs82 q94 q1656) ⟨_, rfl, rfl⟩ ⟨rfl, by decide +kernel, by decide +kernel, by decide +kernel⟩)⟩, ?_⟩
  refine List.forall_mem_cons.mpr ⟨⟨_, _, dX6_drift_41, amSite.P (amSiteV (C := RX6) (metX6_draws l G) rfl (by decide) (by decide) (lw_V q1653 q1655 qs82 q94 q1656) ⟨_, rfl, rfl⟩ ⟨rfl, by decide +kernel, by decide +kernel, by decide +kernel⟩)⟩, ?_⟩
  refine List.forall_mem_cons.mpr ⟨⟨_, _, dX6_drift_51, amSite.P (amSiteLdcw q1660)⟩, ?_⟩
  refine List.forall_mem_cons.mpr ⟨⟨_, _, dX6_drift_55, amSite.P (amSiteV (C := RX6) (metX6_does l G) rfl (by decide) (by decide) (lw_V q1661 q1663 qs83 q94 q1664) ⟨_, rfl, rfl⟩ ⟨rfl, by decide +kernel, by decide +kernel, by decide +kernel⟩)⟩, ?_⟩
  refine List.forall_mem_cons.mpr ⟨⟨_, _, dX6_drift_58, amSite.P (amSitePut ⟨_, rfl, by decide, Or.inl q1321⟩ (fun q h => by cases h; rfl))⟩, ?_⟩
  refine List.forall_mem_cons.mpr ⟨⟨_, _, dX6_drift_68, amSite.P (amSiteGet ⟨_, rfl, by decide, Or.inl q1295⟩)⟩, ?_⟩
  exact fun _ h => absurd h List.not_mem_nil)
theorem goX6_drift {ret F} (hF : amCld cX6_drift kX6_drift (amLk rX6_drift) (some .int) 0 0 ret F) (n : Nat) {pc ls st h k z} (q : sX6_drift ret F n pc ls st h k z) : F pc ls st h k z := hF.1 n pc ls st h k z q
theorem metX6_drift (l : Launch) (G : amG) : amMet l G yX6_drift (ws_ yX6_drift cX6_drift 5 (some .int)) 5 0 0 tX6_drift := by
  refine amMet_of (cut := kX6_drift) (by decide +kernel) (evX6_drift l G) ?_
  intro as h K hT
  match as, hT with
  | [.ref t, .int x], ⟨X, e1, w, hO0, hK⟩ =>
  refine ⟨Nat.le_of_ble_eq_true rfl, fun F hF => ?_⟩
  show F 0 [.ref t, .int x, .retAddr 0, .retAddr 0, .retAddr 0] [] h 0 0
  obtain ⟨t, rfl⟩ : ∃ i : Nat, i = t := ⟨_, rfl⟩
  subst e1
  have key := hK
  have hR := w.1
  by_cases q : lN 1 ≤ x.toInt64 ∧ x.toInt64 ≤ lN 40
  · obtain ⟨n, n1, n40, rfl⟩ := (amInL (by decide) (by decide)).mp q
    rw [driftR, if_pos q, amCl_nI (by omega)] at key
    have loop : ∀ t k h1 Y v3 v4, k + t = n → msFr h h1 → MdW h1 Y → hsOk Y.1 → Y = driftX k X → F 16 [.ref 124, .int (nI n), .int (nI k), v3, v4] [] h1 0 0 := by
      intro t
      induction t with
      | zero =>
        intro k h1 Y v3 v4 e f w1 hO eY
        have hR := w1.1
        have e : k = n := by omega
        subst e
        rw [← eY] at key
        have hm : h1.2.1 125 0 = nI Y.1.ord.length := w1.2.1.n
        have key := key h1 f w1
        refine goX6_drift hF 60 ?_
        simp (disch := omega) only [wX6_drift_0, uX6_drift_0, wX6_drift_1, wX6_drift_2, wX6_drift_3, wX6_drift_6, wX6_drift_9, wX6_drift_12, wX6_drift_13, wX6_drift_14, uX6_drift_14, wX6_drift_15, wX6_drift_16, uX6_drift_16, wX6_drift_17, wX6_drift_18, wX6_drift_21, wX6_drift_22, wX6_drift_25, uX6_drift_25, wX6_drift_26, wX6_drift_29, uX6_drift_29, wX6_drift_30, wX6_drift_33, wX6_drift_36, uX6_drift_36, wX6_drift_37, wX6_drift_38, wX6_drift_41, wX6_drift_44, uX6_drift_44, wX6_drift_46, wX6_drift_47, wX6_drift_48, wX6_drift_49, wX6_drift_51, wX6_drift_54, wX6_drift_55, wX6_drift_58, uX6_drift_58, wX6_drift_61, wX6_drift_64, wX6_drift_67, wX6_drift_68, wX6_drift_71, wX6_drift_72, wX6_drift_73, amSI_1, amSI_2, amSI_3, amSI_s, amU_at, amIsR_ref, amIsR_null, amIsR_rf, amRf_some, amRf_none, amClr_int, amClr_ref, amClr_null, amClr_long, amClr_ra, amClr_rf, amFit_int, amFit_oref, amFit_aref, amFit_onull, amFit_anull, amOptSome, amOptNone, List.cons_append, List.nil_append, true_and, and_true, true_implies, not_true_eq_false, not_false_eq_true, false_implies, and_self, Nat.add_zero, Nat.zero_add, ne_eq, Prod.mk.injEq, amC01_0, amC01_1, amC01_nb, amNb0, amNb1, amTcpI_d, Nat.reduceLeDiff, Nat.reduceAdd, Nat.reduceSub, Nat.reduceEqDiff, Nat.le_refl, amN0le, hR.s, hR.r, amLeI, amLtI, amEqI, amLe0, amGt0, amEq0, amNotPosI, amGe0, amVI, amCl_nI, amAdd, amSub, amMul, hm]
        exact amRet.of (by decide) (by decide) key
      | succ t ih =>
        intro k h1 Y v3 v4 e f w1 hO eY
        have hR := w1.1
        have q : (n ≤ k) = False := eq_false (by omega)
        refine goX6_drift hF 60 ?_
        simp (disch := omega) only [wX6_drift_0, uX6_drift_0, wX6_drift_1, wX6_drift_2, wX6_drift_3, wX6_drift_6, wX6_drift_9, wX6_drift_12, wX6_drift_13, wX6_drift_14, uX6_drift_14, wX6_drift_15, wX6_drift_16, uX6_drift_16, wX6_drift_17, wX6_drift_18, wX6_drift_21, wX6_drift_22, wX6_drift_25, uX6_drift_25, wX6_drift_26, wX6_drift_29, uX6_drift_29, wX6_drift_30, wX6_drift_33, wX6_drift_36, uX6_drift_36, wX6_drift_37, wX6_drift_38, wX6_drift_41, wX6_drift_44, uX6_drift_44, wX6_drift_46, wX6_drift_47, wX6_drift_48, wX6_drift_49, wX6_drift_51, wX6_drift_54, wX6_drift_55, wX6_drift_58, uX6_drift_58, wX6_drift_61, wX6_drift_64, wX6_drift_67, wX6_drift_68, wX6_drift_71, wX6_drift_72, wX6_drift_73, amSI_1, amSI_2, amSI_3, amSI_s, amU_at, amIsR_ref, amIsR_null, amIsR_rf, amRf_some, amRf_none, amClr_int, amClr_ref, amClr_null, amClr_long, amClr_ra, amClr_rf, amFit_int, amFit_oref, amFit_aref, amFit_onull, amFit_anull, amOptSome, amOptNone, List.cons_append, List.nil_append, true_and, and_true, true_implies, not_true_eq_false, not_false_eq_true, false_implies, and_self, Nat.add_zero, Nat.zero_add, ne_eq, Prod.mk.injEq, amC01_0, amC01_1, amC01_nb, amNb0, amNb1, amTcpI_d, Nat.reduceLeDiff, Nat.reduceAdd, Nat.reduceSub, Nat.reduceEqDiff, Nat.le_refl, amN0le, hR.s, hR.r, amLeI, q]
        refine ⟨rfl, hR, fun m1 q1 q2 => ?_⟩
        refine goX6_drift hF 60 ?_
        simp (disch := omega) only [wX6_drift_0, uX6_drift_0, wX6_drift_1, wX6_drift_2, wX6_drift_3, wX6_drift_6, wX6_drift_9, wX6_drift_12, wX6_drift_13, wX6_drift_14, uX6_drift_14, wX6_drift_15, wX6_drift_16, uX6_drift_16, wX6_drift_17, wX6_drift_18, wX6_drift_21, wX6_drift_22, wX6_drift_25, uX6_drift_25, wX6_drift_26, wX6_drift_29, uX6_drift_29, wX6_drift_30, wX6_drift_33, wX6_drift_36, uX6_drift_36, wX6_drift_37, wX6_drift_38, wX6_drift_41, wX6_drift_44, uX6_drift_44, wX6_drift_46, wX6_drift_47, wX6_drift_48, wX6_drift_49, wX6_drift_51, wX6_drift_54, wX6_drift_55, wX6_drift_58, uX6_drift_58, wX6_drift_61, wX6_drift_64, wX6_drift_67, wX6_drift_68, wX6_drift_71, wX6_drift_72, wX6_drift_73, amSI_1, amSI_2, amSI_3, amSI_s, amU_at, amIsR_ref, amIsR_null, amIsR_rf, amRf_some, amRf_none, amClr_int, amClr_ref, amClr_null, amClr_long, amClr_ra, amClr_rf, amFit_int, amFit_oref, amFit_aref, amFit_onull, amFit_anull, amOptSome, amOptNone, List.cons_append, List.nil_append, true_and, and_true, true_implies, not_true_eq_false, not_false_eq_true, false_implies, and_self, Nat.add_zero, Nat.zero_add, ne_eq, Prod.mk.injEq, amC01_0, amC01_1, amC01_nb, amNb0, amNb1, amTcpI_d, Nat.reduceLeDiff, Nat.reduceAdd, Nat.reduceSub, Nat.reduceEqDiff, Nat.le_refl, amN0le, hR.s, hR.r]
        refine ⟨Y.1, Y.2.1, rfl, hR, w1.first q1 (maFr.rf m1), w1.past q2 (maFr.rf m1), fun m2 s1 s2 s3 => ?_⟩
        have s2 : ∀ i : Nat, i ≠ 124 → i ≠ 126 → m2 i = m1 i := s2
        have s3 : ∀ j : Nat, j ≠ 2 → m2 124 j = m1 124 j := s3
        have r2 : RwIs m2 125 0 Y.1 := w1.2.1.kept (by rw [s2 125 (by decide) (by decide), q2 125 (by decide)])
        have l1 := lcgN_lt Y.1.draw
        have l2 := lcgN_lt (lcgN Y.1.draw)
        refine goX6_drift hF 60 ?_
        simp (disch := omega) only [wX6_drift_0, uX6_drift_0, wX6_drift_1, wX6_drift_2, wX6_drift_3, wX6_drift_6, wX6_drift_9, wX6_drift_12, wX6_drift_13, wX6_drift_14, uX6_drift_14, wX6_drift_15, wX6_drift_16, uX6_drift_16, wX6_drift_17, wX6_drift_18, wX6_drift_21, wX6_drift_22, wX6_drift_25, uX6_drift_25, wX6_drift_26, wX6_drift_29, uX6_drift_29, wX6_drift_30, wX6_drift_33, wX6_drift_36, uX6_drift_36, wX6_drift_37, wX6_drift_38, wX6_drift_41, wX6_drift_44, uX6_drift_44, wX6_drift_46, wX6_drift_47, wX6_drift_48, wX6_drift_49, wX6_drift_51, wX6_drift_54, wX6_drift_55, wX6_drift_58, uX6_drift_58, wX6_drift_61, wX6_drift_64, wX6_drift_67, wX6_drift_68, wX6_drift_71, wX6_drift_72, wX6_drift_73, amSI_1, amSI_2, amSI_3, amSI_s, amU_at, amIsR_ref, amIsR_null, amIsR_rf, amRf_some, amRf_none, amClr_int, amClr_ref, amClr_null, amClr_long, amClr_ra, amClr_rf, amFit_int, amFit_oref, amFit_aref, amFit_onull, amFit_anull, amOptSome, amOptNone, List.cons_append, List.nil_append, true_and, and_true, true_implies, not_true_eq_false, not_false_eq_true, false_implies, and_self, Nat.add_zero, Nat.zero_add, ne_eq, Prod.mk.injEq, amC01_0, amC01_1, amC01_nb, amNb0, amNb1, amTcpI_d, Nat.reduceLeDiff, Nat.reduceAdd, Nat.reduceSub, Nat.reduceEqDiff, Nat.le_refl, amN0le, hR.s, hR.r]
        refine ⟨Y.1, 65536, rfl, hR, r2, hO.dr, rfl, by decide, by decide, fun m3 p1 p2 => ?_⟩
        refine goX6_drift hF 60 ?_
        simp (disch := omega) only [wX6_drift_0, uX6_drift_0, wX6_drift_1, wX6_drift_2, wX6_drift_3, wX6_drift_6, wX6_drift_9, wX6_drift_12, wX6_drift_13, wX6_drift_14, uX6_drift_14, wX6_drift_15, wX6_drift_16, uX6_drift_16, wX6_drift_17, wX6_drift_18, wX6_drift_21, wX6_drift_22, wX6_drift_25, uX6_drift_25, wX6_drift_26, wX6_drift_29, uX6_drift_29, wX6_drift_30, wX6_drift_33, wX6_drift_36, uX6_drift_36, wX6_drift_37, wX6_drift_38, wX6_drift_41, wX6_drift_44, uX6_drift_44, wX6_drift_46, wX6_drift_47, wX6_drift_48, wX6_drift_49, wX6_drift_51, wX6_drift_54, wX6_drift_55, wX6_drift_58, uX6_drift_58, wX6_drift_61, wX6_drift_64, wX6_drift_67, wX6_drift_68, wX6_drift_71, wX6_drift_72, wX6_drift_73, amSI_1, amSI_2, amSI_3, amSI_s, amU_at, amIsR_ref, amIsR_null, amIsR_rf, amRf_some, amRf_none, amClr_int, amClr_ref, amClr_null, amClr_long, amClr_ra, amClr_rf, amFit_int, amFit_oref, amFit_aref, amFit_onull, amFit_anull, amOptSome, amOptNone, List.cons_append, List.nil_append, true_and, and_true, true_implies, not_true_eq_false, not_false_eq_true, false_implies, and_self, Nat.add_zero, Nat.zero_add, ne_eq, Prod.mk.injEq, amC01_0, amC01_1, amC01_nb, amNb0, amNb1, amTcpI_d, Nat.reduceLeDiff, Nat.reduceAdd, Nat.reduceSub, Nat.reduceEqDiff, Nat.le_refl, amN0le, hR.s, hR.r]
        refine ⟨Y.1.setD (lcgN Y.1.draw), 2048, rfl, hR, p1, l1, rfl, by decide, by decide, fun m4 p3 p4 => ?_⟩
        rw [HS.setD_draw] at p3
        rw [HS.setD_draw]
        have rm2 : nI (lcgN (lcgN Y.1.draw) / 2048) - nI (lcgN (lcgN Y.1.draw) / 2048) / nI 1048576 * nI 1048576 = nI (lcgN (lcgN Y.1.draw) / 2048 % 1048576) := pk_rem (by omega) (by decide) (by decide)
        have nz3 : (nI 1048576 = 0) = False := by decide
        have ml : lcgN (lcgN Y.1.draw) / 2048 % 1048576 < 1048576 := Nat.mod_lt _ (by decide)
        have hO4 : hsOk ((Y.1.setD (lcgN Y.1.draw)).setD (lcgN (lcgN Y.1.draw))) := (hO.setD l1).setD l2
        refine goX6_drift hF 60 ?_
        simp (disch := omega) only [wX6_drift_0, uX6_drift_0, wX6_drift_1, wX6_drift_2, wX6_drift_3, wX6_drift_6, wX6_drift_9, wX6_drift_12, wX6_drift_13, wX6_drift_14, uX6_drift_14, wX6_drift_15, wX6_drift_16, uX6_drift_16, wX6_drift_17, wX6_drift_18, wX6_drift_21, wX6_drift_22, wX6_drift_25, uX6_drift_25, wX6_drift_26, wX6_drift_29, uX6_drift_29, wX6_drift_30, wX6_drift_33, wX6_drift_36, uX6_drift_36, wX6_drift_37, wX6_drift_38, wX6_drift_41, wX6_drift_44, uX6_drift_44, wX6_drift_46, wX6_drift_47, wX6_drift_48, wX6_drift_49, wX6_drift_51, wX6_drift_54, wX6_drift_55, wX6_drift_58, uX6_drift_58, wX6_drift_61, wX6_drift_64, wX6_drift_67, wX6_drift_68, wX6_drift_71, wX6_drift_72, wX6_drift_73, amSI_1, amSI_2, amSI_3, amSI_s, amU_at, amIsR_ref, amIsR_null, amIsR_rf, amRf_some, amRf_none, amClr_int, amClr_ref, amClr_null, amClr_long, amClr_ra, amClr_rf, amFit_int, amFit_oref, amFit_aref, amFit_onull, amFit_anull, amOptSome, amOptNone, List.cons_append, List.nil_append, true_and, and_true, true_implies, not_true_eq_false, not_false_eq_true, false_implies, and_self, Nat.add_zero, Nat.zero_add, ne_eq, Prod.mk.injEq, amC01_0, amC01_1, amC01_nb, amNb0, amNb1, amTcpI_d, Nat.reduceLeDiff, Nat.reduceAdd, Nat.reduceSub, Nat.reduceEqDiff, Nat.le_refl, amN0le, hR.s, hR.r, rm2, nz3]
        refine ⟨_, lcgN Y.1.draw / 65536, lcgN (lcgN Y.1.draw) / 2048 % 1048576, rfl, rfl, rfl, by omega, ml, ⟨hR, p3, hO4⟩, fun m5 c g1 g2 => ?_⟩
        have g2 : maFr m4 m5 := g2
        have p2 : ∀ i : Nat, i ≠ 125 → m3 i = m2 i := p2
        have p4 : ∀ i : Nat, i ≠ 125 → m4 i = m3 i := p4
        have hO5 : hsOk Y.1.dr1 := hO4.hap _ ml
        have g1 : RwIs m5 125 0 Y.1.dr1 := g1
        have ee : ∀ i : Nat, i ≠ 124 → i ≠ 125 → i ≠ 126 → i ≠ 142 → (i < 134 ∨ 141 ≤ i) → m5 i = h1.2.1 i := fun i a1 a2 a3 a4 a5 => by rw [g2.1 i a1 a2 a5, p4 i a2, p2 i a2, s2 i a1 a3, q2 i a4]
        have e4 : ∀ j : Nat, j ≠ 2 → j < 19 → m5 124 j = h1.2.1 124 j := fun j a1 a2 => by rw [g2.2 j (by omega), p4 124 (by decide), p2 124 (by decide), s3 j a1, q2 124 (by decide)]
        have un : UnM m5 (noteU Y.2.1 Y.1) := s1.kept (by rw [g2.2 2 (by decide), p4 124 (by decide), p2 124 (by decide)]) (by rw [g2.1 126 (by decide) (by decide) (by decide), p4 126 (by decide), p2 126 (by decide)])
        obtain ⟨k1, k2⟩ := w1.of (m := amU m5 124 26 c) (S' := Y.1.dr1) (U' := noteU Y.2.1 Y.1) (g1.kept (by funext j; simp (disch := omega) only [amU_at, amU_ne, amU_nj, amU_neR, up_ne, up_at, amSI_2])) (un.kept (by simp (disch := omega) only [amU_at, amU_ne, amU_nj, amU_neR, up_ne, up_at, amSI_2]) (by funext j; simp (disch := omega) only [amU_at, amU_ne, amU_nj, amU_neR, up_ne, up_at, amSI_2])) (fun i a1 a2 a3 a4 a5 => by
          simp (disch := omega) only [amU_at, amU_ne, amU_nj, amU_neR, up_ne, up_at, amSI_2]
          exact ee i a1 a2 a3 a4 a5) (by
          simp (disch := omega) only [amU_at, amU_ne, amU_nj, amU_neR, up_ne, up_at, amSI_2]
          exact e4 5 (by decide) (by decide)) (by
          simp (disch := omega) only [amU_at, amU_ne, amU_nj, amU_neR, up_ne, up_at, amSI_2]
          exact e4 7 (by decide) (by decide))
        have := ih (k + 1) _ (actX Y Y.1.dr1) (.int (nI (lcgN Y.1.draw / 65536))) (.int (nI (lcgN (lcgN Y.1.draw) / 2048))) (by omega) (f.tr k1) k2 hO5 (by rw [driftX_s, ← eY])
        refine goX6_drift hF 60 ?_
        simp (disch := omega) only [wX6_drift_0, uX6_drift_0, wX6_drift_1, wX6_drift_2, wX6_drift_3, wX6_drift_6, wX6_drift_9, wX6_drift_12, wX6_drift_13, wX6_drift_14, uX6_drift_14, wX6_drift_15, wX6_drift_16, uX6_drift_16, wX6_drift_17, wX6_drift_18, wX6_drift_21, wX6_drift_22, wX6_drift_25, uX6_drift_25, wX6_drift_26, wX6_drift_29, uX6_drift_29, wX6_drift_30, wX6_drift_33, wX6_drift_36, uX6_drift_36, wX6_drift_37, wX6_drift_38, wX6_drift_41, wX6_drift_44, uX6_drift_44, wX6_drift_46, wX6_drift_47, wX6_drift_48, wX6_drift_49, wX6_drift_51, wX6_drift_54, wX6_drift_55, wX6_drift_58, uX6_drift_58, wX6_drift_61, wX6_drift_64, wX6_drift_67, wX6_drift_68, wX6_drift_71, wX6_drift_72, wX6_drift_73, amSI_1, amSI_2, amSI_3, amSI_s, amU_at, amIsR_ref, amIsR_null, amIsR_rf, amRf_some, amRf_none, amClr_int, amClr_ref, amClr_null, amClr_long, amClr_ra, amClr_rf, amFit_int, amFit_oref, amFit_aref, amFit_onull, amFit_anull, amOptSome, amOptNone, List.cons_append, List.nil_append, true_and, and_true, true_implies, not_true_eq_false, not_false_eq_true, false_implies, and_self, Nat.add_zero, Nat.zero_add, ne_eq, Prod.mk.injEq, amC01_0, amC01_1, amC01_nb, amNb0, amNb1, amTcpI_d, Nat.reduceLeDiff, Nat.reduceAdd, Nat.reduceSub, Nat.reduceEqDiff, Nat.le_refl, amN0le, hR.s, hR.r, amAdd]
        exact this
    have first := loop n 0 h X (.retAddr 0) (.retAddr 0) (by omega) (msFr.rf h) w hO0 rfl
    refine goX6_drift hF 60 ?_
    simp (disch := omega) only [wX6_drift_0, uX6_drift_0, wX6_drift_1, wX6_drift_2, wX6_drift_3, wX6_drift_6, wX6_drift_9, wX6_drift_12, wX6_drift_13, wX6_drift_14, uX6_drift_14, wX6_drift_15, wX6_drift_16, uX6_drift_16, wX6_drift_17, wX6_drift_18, wX6_drift_21, wX6_drift_22, wX6_drift_25, uX6_drift_25, wX6_drift_26, wX6_drift_29, uX6_drift_29, wX6_drift_30, wX6_drift_33, wX6_drift_36, uX6_drift_36, wX6_drift_37, wX6_drift_38, wX6_drift_41, wX6_drift_44, uX6_drift_44, wX6_drift_46, wX6_drift_47, wX6_drift_48, wX6_drift_49, wX6_drift_51, wX6_drift_54, wX6_drift_55, wX6_drift_58, uX6_drift_58, wX6_drift_61, wX6_drift_64, wX6_drift_67, wX6_drift_68, wX6_drift_71, wX6_drift_72, wX6_drift_73, amSI_1, amSI_2, amSI_3, amSI_s, amU_at, amIsR_ref, amIsR_null, amIsR_rf, amRf_some, amRf_none, amClr_int, amClr_ref, amClr_null, amClr_long, amClr_ra, amClr_rf, amFit_int, amFit_oref, amFit_aref, amFit_onull, amFit_anull, amOptSome, amOptNone, List.cons_append, List.nil_append, true_and, and_true, true_implies, not_true_eq_false, not_false_eq_true, false_implies, and_self, Nat.add_zero, Nat.zero_add, ne_eq, Prod.mk.injEq, amC01_0, amC01_1, amC01_nb, amNb0, amNb1, amTcpI_d, Nat.reduceLeDiff, Nat.reduceAdd, Nat.reduceSub, Nat.reduceEqDiff, Nat.le_refl, amN0le, tX6_in_d]
    refine ⟨fun _ => ?_, fun z => absurd q z⟩
    refine goX6_drift hF 60 ?_
    simp (disch := omega) only [wX6_drift_0, uX6_drift_0, wX6_drift_1, wX6_drift_2, wX6_drift_3, wX6_drift_6, wX6_drift_9, wX6_drift_12, wX6_drift_13, wX6_drift_14, uX6_drift_14, wX6_drift_15, wX6_drift_16, uX6_drift_16, wX6_drift_17, wX6_drift_18, wX6_drift_21, wX6_drift_22, wX6_drift_25, uX6_drift_25, wX6_drift_26, wX6_drift_29, uX6_drift_29, wX6_drift_30, wX6_drift_33, wX6_drift_36, uX6_drift_36, wX6_drift_37, wX6_drift_38, wX6_drift_41, wX6_drift_44, uX6_drift_44, wX6_drift_46, wX6_drift_47, wX6_drift_48, wX6_drift_49, wX6_drift_51, wX6_drift_54, wX6_drift_55, wX6_drift_58, uX6_drift_58, wX6_drift_61, wX6_drift_64, wX6_drift_67, wX6_drift_68, wX6_drift_71, wX6_drift_72, wX6_drift_73, amSI_1, amSI_2, amSI_3, amSI_s, amU_at, amIsR_ref, amIsR_null, amIsR_rf, amRf_some, amRf_none, amClr_int, amClr_ref, amClr_null, amClr_long, amClr_ra, amClr_rf, amFit_int, amFit_oref, amFit_aref, amFit_onull, amFit_anull, amOptSome, amOptNone, List.cons_append, List.nil_append, true_and, and_true, true_implies, not_true_eq_false, not_false_eq_true, false_implies, and_self, Nat.add_zero, Nat.zero_add, ne_eq, Prod.mk.injEq, amC01_0, amC01_1, amC01_nb, amNb0, amNb1, amTcpI_d, Nat.reduceLeDiff, Nat.reduceAdd, Nat.reduceSub, Nat.reduceEqDiff, Nat.le_refl, amN0le]
    exact first
  · rw [driftR, if_neg q] at key
    refine goX6_drift hF 60 ?_
    simp (disch := omega) only [wX6_drift_0, uX6_drift_0, wX6_drift_1, wX6_drift_2, wX6_drift_3, wX6_drift_6, wX6_drift_9, wX6_drift_12, wX6_drift_13, wX6_drift_14, uX6_drift_14, wX6_drift_15, wX6_drift_16, uX6_drift_16, wX6_drift_17, wX6_drift_18, wX6_drift_21, wX6_drift_22, wX6_drift_25, uX6_drift_25, wX6_drift_26, wX6_drift_29, uX6_drift_29, wX6_drift_30, wX6_drift_33, wX6_drift_36, uX6_drift_36, wX6_drift_37, wX6_drift_38, wX6_drift_41, wX6_drift_44, uX6_drift_44, wX6_drift_46, wX6_drift_47, wX6_drift_48, wX6_drift_49, wX6_drift_51, wX6_drift_54, wX6_drift_55, wX6_drift_58, uX6_drift_58, wX6_drift_61, wX6_drift_64, wX6_drift_67, wX6_drift_68, wX6_drift_71, wX6_drift_72, wX6_drift_73, amSI_1, amSI_2, amSI_3, amSI_s, amU_at, amIsR_ref, amIsR_null, amIsR_rf, amRf_some, amRf_none, amClr_int, amClr_ref, amClr_null, amClr_long, amClr_ra, amClr_rf, amFit_int, amFit_oref, amFit_aref, amFit_onull, amFit_anull, amOptSome, amOptNone, List.cons_append, List.nil_append, true_and, and_true, true_implies, not_true_eq_false, not_false_eq_true, false_implies, and_self, Nat.add_zero, Nat.zero_add, ne_eq, Prod.mk.injEq, amC01_0, amC01_1, amC01_nb, amNb0, amNb1, amTcpI_d, Nat.reduceLeDiff, Nat.reduceAdd, Nat.reduceSub, Nat.reduceEqDiff, Nat.le_refl, amN0le, tX6_in_d]
    exact ⟨fun z => absurd (Classical.not_not.mp z) q, fun _ => amRet.of (by decide) (by decide) (key h (msFr.rf h) w)⟩
theorem tX6_drift_d {t : Nat} {x : Int32} {h : amH} {K : Option Value → amH → Prop} : tX6_drift [.ref t, .int x] h K = ∃ X : XS, t = (124 : Nat) ∧ MdW h X ∧ hsOk X.1 ∧ ∀ h', msFr h h' → MdW h' (driftR X x).1 → K (some (.int (driftR X x).2)) h' := rfl
def tX6_undo : amT := fun as h K => match as with
  | [.ref t] => ∃ X : XS, t = (124 : Nat) ∧ MdW h X ∧ ∀ h', msFr h h' → MdW h' (undoR X).1 → K (some (.int (undoR X).2)) h'
  | _ => False
/-! ReadingStagesModel.undo()I -/
def kX6_undo : Nat → Bool := fun pc => pc == 22
def rX6_undo : List (Nat × amS) := [(1, 1, 0, 0, amTget 6 2), (12, 1, 0, 0, amTget 6 2), (17, 2, 0, 0, amTput 6 2), (29, 1, 0, 0, amTget 6 0), (34, 1, 0, 0, amTget 6 1), (40, 1, 0, 0, amTget 6 2), (55, 1, 0, 0, amTget 6 2)]
def eX6_undo (ret : Option Value → amH → Nat → Nat → Prop) (F : amX) : Nat → amX := amWp cX6_undo kX6_undo (amLk rX6_undo) (some .int) 0 0 ret F
def sX6_undo (ret : Option Value → amH → Nat → Nat → Prop) (F : amX) : Nat → amX := amWs cX6_undo kX6_undo (amLk rX6_undo) (some .int) 0 0 ret F
theorem wX6_undo_0 {ret F n h} {v0 v1 st} : eX6_undo ret F (n + 1) 0 [v0, v1] (st) h 0 0 = (amIsR v0 ∧ eX6_undo ret F n 1 [v0, v1] (v0 :: st) h 0 0) := (amWp_dec rfl dX6_undo_0 rfl).trans rfl
theorem uX6_undo_0 {ret F n h} {v0 v1 st} : sX6_undo ret F n 0 [v0, v1] (st) h 0 0 = (amIsR v0 ∧ eX6_undo ret F n 1 [v0, v1] (v0 :: st) h 0 0) := (amWs_dec dX6_undo_0 rfl).trans rfl
theorem wX6_undo_1 {ret F n h} {v0 v1 a} : eX6_undo ret F (n + 1) 1 [v0, v1] (.ref a :: []) h 0 0 = (h.1 a = (0, 6) ∧ eX6_undo ret F n 4 [v0, v1] (.int (h.2.1 a 2) :: []) h 0 0) := (amWp_dec rfl dX6_undo_1 rfl).trans (amS4 (Nat.le_of_ble_eq_true rfl) (Nat.le_of_ble_eq_true rfl) (Nat.le_of_ble_eq_true rfl) (Nat.le_of_ble_eq_true rfl))
theorem wX6_undo_4 {ret F n h} {v0 v1 st x} : eX6_undo ret F (n + 1) 4 [v0, v1] (.int x :: st) h 0 0 = ((¬ x = 0 → eX6_undo ret F n 10 [v0, v1] (st) h 0 0) ∧ (x = 0 → eX6_undo ret F n 7 [v0, v1] (st) h 0 0)) := (amWp_dec rfl dX6_undo_4 rfl).trans rfl
theorem wX6_undo_7 {ret F n h} {v0 v1 st} : eX6_undo ret F (n + 1) 7 [v0, v1] (st) h 0 0 = (eX6_undo ret F n 9 [v0, v1] (.int (-4) :: st) h 0 0) := (amWp_dec rfl dX6_undo_7 rfl).trans rfl
theorem wX6_undo_9 {ret F n h} {v0 v1 x} : eX6_undo ret F (n + 1) 9 [v0, v1] ([.int x]) h 0 0 = (ret (some (.int x)) h 0 0) := (amWp_dec rfl dX6_undo_9 rfl).trans (amTrue ⟨_, rfl, rfl⟩)
theorem wX6_undo_10 {ret F n h} {v0 v1 st} : eX6_undo ret F (n + 1) 10 [v0, v1] (st) h 0 0 = (amIsR v0 ∧ eX6_undo ret F n 11 [v0, v1] (v0 :: st) h 0 0) := (amWp_dec rfl dX6_undo_10 rfl).trans rfl
theorem wX6_undo_11 {ret F n h} {v0 v1 st b} : eX6_undo ret F (n + 1) 11 [v0, v1] (.ref b :: st) h 0 0 = (eX6_undo ret F n 12 [v0, v1] (.ref b :: .ref b :: st) h 0 0) := (amWp_dec rfl dX6_undo_11 rfl).trans (amTrue rfl)
theorem wX6_undo_12 {ret F n h} {v0 v1 r0 a} : eX6_undo ret F (n + 1) 12 [v0, v1] (.ref a :: r0 :: []) h 0 0 = (h.1 a = (0, 6) ∧ eX6_undo ret F n 15 [v0, v1] (.int (h.2.1 a 2) :: r0 :: []) h 0 0) := (amWp_dec rfl dX6_undo_12 rfl).trans (amS4 (Nat.le_of_ble_eq_true rfl) (Nat.le_of_ble_eq_true rfl) (Nat.le_of_ble_eq_true rfl) (Nat.le_of_ble_eq_true rfl))
theorem wX6_undo_15 {ret F n h} {v0 v1 st} : eX6_undo ret F (n + 1) 15 [v0, v1] (st) h 0 0 = (eX6_undo ret F n 16 [v0, v1] (.int (nI 1) :: st) h 0 0) := (amWp_dec rfl dX6_undo_15 rfl).trans rfl
theorem wX6_undo_16 {ret F n h} {v0 v1 st y x} : eX6_undo ret F (n + 1) 16 [v0, v1] (.int y :: .int x :: st) h 0 0 = (eX6_undo ret F n 17 [v0, v1] (.int (x - y) :: st) h 0 0) := (amWp_dec rfl dX6_undo_16 rfl).trans rfl
theorem wX6_undo_17 {ret F n h} {v0 v1 x a} : eX6_undo ret F (n + 1) 17 [v0, v1] (.int x :: .ref a :: []) h 0 0 = (h.1 a = (0, 6) ∧ amN0 ≤ a ∧ amFit .int (.int x) ∧ eX6_undo ret F n 20 [v0, v1] ([]) (amSI h (amU h.2.1 a 2 x)) 0 0) := (amWp_dec rfl dX6_undo_17 rfl).trans (amS4 (Nat.le_of_ble_eq_true rfl) (Nat.le_of_ble_eq_true rfl) (Nat.le_of_ble_eq_true rfl) (Nat.le_of_ble_eq_true rfl))
theorem wX6_undo_20 {ret F n h} {v0 v1 st} : eX6_undo ret F (n + 1) 20 [v0, v1] (st) h 0 0 = (eX6_undo ret F n 21 [v0, v1] (.int (nI 0) :: st) h 0 0) := (amWp_dec rfl dX6_undo_20 rfl).trans rfl
theorem wX6_undo_21 {ret F n h} {v0 v1 st x} : eX6_undo ret F (n + 1) 21 [v0, v1] (.int x :: st) h 0 0 = (eX6_undo ret F n 22 [amClr v0, .int x] (st) h 0 0) := (amWp_dec rfl dX6_undo_21 rfl).trans (amTrue (Nat.le_of_ble_eq_true rfl))
theorem wX6_undo_22 {ret F n ls st h k z} : eX6_undo ret F (n + 1) 22 ls st h k z = F 22 ls st h k z := amWp_cut rfl
theorem uX6_undo_22 {ret F n h} {v0 st x} : sX6_undo ret F n 22 [v0, .int x] (st) h 0 0 = (eX6_undo ret F n 23 [v0, .int x] (.int x :: st) h 0 0) := (amWs_dec dX6_undo_22 rfl).trans rfl
theorem wX6_undo_23 {ret F n h} {v0 v1 st} : eX6_undo ret F (n + 1) 23 [v0, v1] (st) h 0 0 = (eX6_undo ret F n 25 [v0, v1] (.int (nI 27) :: st) h 0 0) := (amWp_dec rfl dX6_undo_23 rfl).trans rfl
theorem wX6_undo_25 {ret F n h} {v0 v1 st y x} : eX6_undo ret F (n + 1) 25 [v0, v1] (.int y :: .int x :: st) h 0 0 = ((y ≤ x → eX6_undo ret F n 54 [v0, v1] (st) h 0 0) ∧ (¬ y ≤ x → eX6_undo ret F n 28 [v0, v1] (st) h 0 0)) := (amWp_dec rfl dX6_undo_25 rfl).trans rfl
theorem wX6_undo_28 {ret F n h} {v0 v1 st} : eX6_undo ret F (n + 1) 28 [v0, v1] (st) h 0 0 = (amIsR v0 ∧ eX6_undo ret F n 29 [v0, v1] (v0 :: st) h 0 0) := (amWp_dec rfl dX6_undo_28 rfl).trans rfl
theorem wX6_undo_29 {ret F n h} {v0 v1 a} : eX6_undo ret F (n + 1) 29 [v0, v1] (.ref a :: []) h 0 0 = (h.1 a = (0, 6) ∧ eX6_undo ret F n 32 [v0, v1] (va_rf (h.2.2.2.1 a 0) :: []) h 0 0) := (amWp_dec rfl dX6_undo_29 rfl).trans (amS4 (Nat.le_of_ble_eq_true rfl) (Nat.le_of_ble_eq_true rfl) (Nat.le_of_ble_eq_true rfl) (Nat.le_of_ble_eq_true rfl))
theorem wX6_undo_32 {ret F n h} {v0 st x} : eX6_undo ret F (n + 1) 32 [v0, .int x] (st) h 0 0 = (eX6_undo ret F n 33 [v0, .int x] (.int x :: st) h 0 0) := (amWp_dec rfl dX6_undo_32 rfl).trans rfl
theorem wX6_undo_33 {ret F n h} {v0 v1 st} : eX6_undo ret F (n + 1) 33 [v0, v1] (st) h 0 0 = (amIsR v0 ∧ eX6_undo ret F n 34 [v0, v1] (v0 :: st) h 0 0) := (amWp_dec rfl dX6_undo_33 rfl).trans rfl
theorem wX6_undo_34 {ret F n h} {v0 v1 r0 r1 a} : eX6_undo ret F (n + 1) 34 [v0, v1] (.ref a :: r0 :: r1 :: []) h 0 0 = (h.1 a = (0, 6) ∧ eX6_undo ret F n 37 [v0, v1] (va_rf (h.2.2.2.1 a 1) :: r0 :: r1 :: []) h 0 0) := (amWp_dec rfl dX6_undo_34 rfl).trans (amS4 (Nat.le_of_ble_eq_true rfl) (Nat.le_of_ble_eq_true rfl) (Nat.le_of_ble_eq_true rfl) (Nat.le_of_ble_eq_true rfl))
theorem wX6_undo_37 {ret F n h} {v0 v1 st} : eX6_undo ret F (n + 1) 37 [v0, v1] (st) h 0 0 = (eX6_undo ret F n 39 [v0, v1] (.int (nI 27) :: st) h 0 0) := (amWp_dec rfl dX6_undo_37 rfl).trans rfl
theorem wX6_undo_39 {ret F n h} {v0 v1 st} : eX6_undo ret F (n + 1) 39 [v0, v1] (st) h 0 0 = (amIsR v0 ∧ eX6_undo ret F n 40 [v0, v1] (v0 :: st) h 0 0) := (amWp_dec rfl dX6_undo_39 rfl).trans rfl
theorem wX6_undo_40 {ret F n h} {v0 v1 r0 r1 r2 r3 a} : eX6_undo ret F (n + 1) 40 [v0, v1] (.ref a :: r0 :: r1 :: r2 :: r3 :: []) h 0 0 = (h.1 a = (0, 6) ∧ eX6_undo ret F n 43 [v0, v1] (.int (h.2.1 a 2) :: r0 :: r1 :: r2 :: r3 :: []) h 0 0) := (amWp_dec rfl dX6_undo_40 rfl).trans (amS4 (Nat.le_of_ble_eq_true rfl) (Nat.le_of_ble_eq_true rfl) (Nat.le_of_ble_eq_true rfl) (Nat.le_of_ble_eq_true rfl))
theorem wX6_undo_43 {ret F n h} {v0 v1 st y x} : eX6_undo ret F (n + 1) 43 [v0, v1] (.int y :: .int x :: st) h 0 0 = (eX6_undo ret F n 44 [v0, v1] (.int (x * y) :: st) h 0 0) := (amWp_dec rfl dX6_undo_43 rfl).trans rfl
theorem wX6_undo_44 {ret F n h} {v0 st x} : eX6_undo ret F (n + 1) 44 [v0, .int x] (st) h 0 0 = (eX6_undo ret F n 45 [v0, .int x] (.int x :: st) h 0 0) := (amWp_dec rfl dX6_undo_44 rfl).trans rfl
theorem wX6_undo_45 {ret F n h} {v0 v1 st y x} : eX6_undo ret F (n + 1) 45 [v0, v1] (.int y :: .int x :: st) h 0 0 = (eX6_undo ret F n 46 [v0, v1] (.int (x + y) :: st) h 0 0) := (amWp_dec rfl dX6_undo_45 rfl).trans rfl
theorem wX6_undo_46 {ret F n h} {v0 v1 st x a} : eX6_undo ret F (n + 1) 46 [v0, v1] (.int x :: .ref a :: st) h 0 0 = ((h.1 a).1 = 1 ∧ vp_in x (h.1 a).2 ∧ eX6_undo ret F n 47 [v0, v1] (.int (h.2.1 a x.toNatClampNeg) :: st) h 0 0) := (amWp_dec rfl dX6_undo_46 rfl).trans rfl
theorem wX6_undo_47 {ret F n h} {v0 v1 st y x a} : eX6_undo ret F (n + 1) 47 [v0, v1] (.int y :: .int x :: .ref a :: st) h 0 0 = ((h.1 a).1 = 1 ∧ vp_in x (h.1 a).2 ∧ amN0 ≤ a ∧ eX6_undo ret F n 48 [v0, v1] (st) (amSI h (amU h.2.1 a x.toNatClampNeg y)) 0 0) := (amWp_dec rfl dX6_undo_47 rfl).trans rfl
theorem wX6_undo_48 {ret F n h} {v0 st x} : eX6_undo ret F (n + 1) 48 [v0, .int x] (st) h 0 0 = (eX6_undo ret F n 51 [amClr v0, .int (x + nI 1)] (st) h 0 0) := (amWp_dec rfl dX6_undo_48 rfl).trans rfl
theorem wX6_undo_51 {ret F n h} {v0 v1 st} : eX6_undo ret F (n + 1) 51 [v0, v1] (st) h 0 0 = (eX6_undo ret F n 22 [v0, v1] (st) h 0 0) := (amWp_dec rfl dX6_undo_51 rfl).trans rfl
theorem wX6_undo_54 {ret F n h} {v0 v1 st} : eX6_undo ret F (n + 1) 54 [v0, v1] (st) h 0 0 = (amIsR v0 ∧ eX6_undo ret F n 55 [v0, v1] (v0 :: st) h 0 0) := (amWp_dec rfl dX6_undo_54 rfl).trans rfl
theorem wX6_undo_55 {ret F n h} {v0 v1 a} : eX6_undo ret F (n + 1) 55 [v0, v1] (.ref a :: []) h 0 0 = (h.1 a = (0, 6) ∧ eX6_undo ret F n 58 [v0, v1] (.int (h.2.1 a 2) :: []) h 0 0) := (amWp_dec rfl dX6_undo_55 rfl).trans (amS4 (Nat.le_of_ble_eq_true rfl) (Nat.le_of_ble_eq_true rfl) (Nat.le_of_ble_eq_true rfl) (Nat.le_of_ble_eq_true rfl))
theorem wX6_undo_58 {ret F n h} {v0 v1 x} : eX6_undo ret F (n + 1) 58 [v0, v1] ([.int x]) h 0 0 = (ret (some (.int x)) h 0 0) := (amWp_dec rfl dX6_undo_58 rfl).trans (amTrue ⟨_, rfl, rfl⟩)
theorem evX6_undo (l : Launch) (G : amG) : ∀ pc S i sz, amLk rX6_undo pc = some S → decode cX6_undo pc = .ok (i, sz) → amSiteP pc G l yX6_undo.cls yX6_undo.name yX6_undo.desc (amRm 1 0 0) i sz S.1 S.2.1 S.2.2.1 S.2.2.2 := amLk_ok (by
  refine List.forall_mem_cons.mpr ⟨⟨_, _, dX6_undo_1, amSite.P (amSiteGet ⟨_, rfl, by decide, Or.inl q1297⟩)⟩, ?_⟩
  refine List.forall_mem_cons.mpr ⟨⟨_, _, dX6_undo_12, amSite.P (amSiteGet ⟨_, rfl, by decide, Or.inl q1297⟩)⟩, ?_⟩
  refine List.forall_mem_cons.mpr ⟨⟨_, _, dX6_undo_17, amSite.P (amSitePut ⟨_, rfl, by decide, Or.inl q1297⟩ (fun q h => by cases h; rfl))⟩, ?_⟩
  refine List.forall_mem_cons.mpr ⟨⟨_, _, dX6_undo_29, amSite.P (amSiteGet ⟨_, rfl, by decide, Or.inl q1295⟩)⟩, ?_⟩
  refine List.forall_mem_cons.mpr ⟨⟨_, _, dX6_undo_34, amSite.P (amSiteGet ⟨_, rfl, by decide, Or.inl q1296⟩)⟩, ?_⟩
  refine List.forall_mem_cons.mpr ⟨⟨_, _, dX6_undo_40, amSite.P (amSiteGet ⟨_, rfl, by decide, Or.inl q1297⟩)⟩, ?_⟩
  refine List.forall_mem_cons.mpr ⟨⟨_, _, dX6_undo_55, amSite.P (amSiteGet ⟨_, rfl, by decide, Or.inl q1297⟩)⟩, ?_⟩
  exact fun _ h => absurd h List.not_mem_nil)
theorem goX6_undo {ret F} (hF : amCld cX6_undo kX6_undo (amLk rX6_undo) (some .int) 0 0 ret F) (n : Nat) {pc ls st h k z} (q : sX6_undo ret F n pc ls st h k z) : F pc ls st h k z := hF.1 n pc ls st h k z q
theorem metX6_undo (l : Launch) (G : amG) : amMet l G yX6_undo (ws_ yX6_undo cX6_undo 2 (some .int)) 1 0 0 tX6_undo := by
  refine amMet_of (cut := kX6_undo) (by decide +kernel) (evX6_undo l G) ?_
  intro as h K hT
  match as, hT with
  | [.ref t], ⟨X, e1, w, hK⟩ =>
  refine ⟨Nat.le_of_ble_eq_true rfl, fun F hF => ?_⟩
  show F 0 [.ref t, .retAddr 0] [] h 0 0
  obtain ⟨t, rfl⟩ : ∃ i : Nat, i = t := ⟨_, rfl⟩
  subst e1
  have hR := w.1
  obtain ⟨u6, un, ur⟩ := w.2.2.1
  by_cases z : X.2.1.length = 0
  · rw [undoR, if_pos z] at hK
    have key := hK h (msFr.rf h) w
    rw [z] at un
    refine goX6_undo hF 40 ?_
    simp (disch := omega) only [wX6_undo_0, uX6_undo_0, wX6_undo_1, wX6_undo_4, wX6_undo_7, wX6_undo_9, wX6_undo_10, wX6_undo_11, wX6_undo_12, wX6_undo_15, wX6_undo_16, wX6_undo_17, wX6_undo_20, wX6_undo_21, wX6_undo_22, uX6_undo_22, wX6_undo_23, wX6_undo_25, wX6_undo_28, wX6_undo_29, wX6_undo_32, wX6_undo_33, wX6_undo_34, wX6_undo_37, wX6_undo_39, wX6_undo_40, wX6_undo_43, wX6_undo_44, wX6_undo_45, wX6_undo_46, wX6_undo_47, wX6_undo_48, wX6_undo_51, wX6_undo_54, wX6_undo_55, wX6_undo_58, amSI_1, amSI_2, amSI_3, amSI_s, amU_at, amIsR_ref, amIsR_null, amIsR_rf, amRf_some, amRf_none, amClr_int, amClr_ref, amClr_null, amClr_long, amClr_ra, amClr_rf, amFit_int, amFit_oref, amFit_aref, amFit_onull, amFit_anull, amOptSome, amOptNone, List.cons_append, List.nil_append, true_and, and_true, true_implies, not_true_eq_false, not_false_eq_true, false_implies, and_self, Nat.add_zero, Nat.zero_add, ne_eq, Prod.mk.injEq, amC01_0, amC01_1, amC01_nb, amNb0, amNb1, amTcpI_d, Nat.reduceLeDiff, Nat.reduceAdd, Nat.reduceSub, Nat.reduceEqDiff, Nat.le_refl, amN0le, hR.s, hR.r, amLeI, amLtI, amEqI, amLe0, amGt0, amEq0, amNotPosI, amGe0, amVI, amCl_nI, amAdd, amSub, amMul, un]
    exact amRet.of (by decide) (by decide) key
  · have z' : (X.2.1.length = 0) = False := eq_false z
    rw [undoR, if_neg z] at hK
    obtain ⟨n, hn⟩ : ∃ n, X.2.1.length = n + 1 := ⟨X.2.1.length - 1, by omega⟩
    rw [hn, Nat.add_sub_cancel] at hK
    rw [hn] at un z'
    have lU : X.2.1.dropLast.length = n := by rw [List.length_dropLast]; omega
    have loop : ∀ t p m, p + t = 27 → (∀ v : Nat, v < p → m 125 v = h.2.1 126 (27 * n + v)) → (∀ i : Nat, i ≠ 124 → i ≠ 125 → m i = h.2.1 i) → m 124 2 = nI n → (∀ j : Nat, j ≠ 2 → m 124 j = h.2.1 124 j) → F 22 [.ref 124, .int (nI p)] [] (amSI h m) 0 0 := by
      intro t
      induction t with
      | zero =>
        intro p m e i1 i2 i3 i4
        have e : p = 27 := by omega
        subst e
        obtain ⟨g1, g2⟩ := w.of (m := m) (S' := X.2.1.getD n HS0) (U' := X.2.1.dropLast) ((ur n (by omega)).copy (fun k hk => by rw [Nat.zero_add]; exact i1 k hk)) ⟨by omega, by rw [lU]; exact i3, fun k hk => by
          have e2 : X.2.1.dropLast.getD k HS0 = X.2.1.getD k HS0 := by
            rw [List.getD_eq_getElem?_getD, List.getElem?_dropLast, if_pos (by omega), List.getD_eq_getElem?_getD]
          rw [e2]
          exact (ur k (by omega)).kept (i2 126 (by decide) (by decide))⟩ (fun i a1 a2 _ _ _ => i2 i a1 a2) (i4 5 (by decide)) (i4 7 (by decide))
        have key := hK _ g1 g2
        refine goX6_undo hF 40 ?_
        simp (disch := omega) only [wX6_undo_0, uX6_undo_0, wX6_undo_1, wX6_undo_4, wX6_undo_7, wX6_undo_9, wX6_undo_10, wX6_undo_11, wX6_undo_12, wX6_undo_15, wX6_undo_16, wX6_undo_17, wX6_undo_20, wX6_undo_21, wX6_undo_22, uX6_undo_22, wX6_undo_23, wX6_undo_25, wX6_undo_28, wX6_undo_29, wX6_undo_32, wX6_undo_33, wX6_undo_34, wX6_undo_37, wX6_undo_39, wX6_undo_40, wX6_undo_43, wX6_undo_44, wX6_undo_45, wX6_undo_46, wX6_undo_47, wX6_undo_48, wX6_undo_51, wX6_undo_54, wX6_undo_55, wX6_undo_58, amSI_1, amSI_2, amSI_3, amSI_s, amU_at, amIsR_ref, amIsR_null, amIsR_rf, amRf_some, amRf_none, amClr_int, amClr_ref, amClr_null, amClr_long, amClr_ra, amClr_rf, amFit_int, amFit_oref, amFit_aref, amFit_onull, amFit_anull, amOptSome, amOptNone, List.cons_append, List.nil_append, true_and, and_true, true_implies, not_true_eq_false, not_false_eq_true, false_implies, and_self, Nat.add_zero, Nat.zero_add, ne_eq, Prod.mk.injEq, amC01_0, amC01_1, amC01_nb, amNb0, amNb1, amTcpI_d, Nat.reduceLeDiff, Nat.reduceAdd, Nat.reduceSub, Nat.reduceEqDiff, Nat.le_refl, amN0le, hR.s, hR.r, amLeI, amLtI, amEqI, amLe0, amGt0, amEq0, amNotPosI, amGe0, amVI, amCl_nI, amAdd, amSub, amMul, i3]
        exact amRet.of (by decide) (by decide) key
      | succ t ih =>
        intro p m e i1 i2 i3 i4
        have q : (27 ≤ p) = False := eq_false (by omega)
        have nx := ih (p + 1) (amU m 125 p (m 126 (27 * n + p))) (by omega) (fun v hv => by
          by_cases y : v = p
          · subst y
            simp (disch := omega) only [amU_at, amU_ne, amU_nj, amU_neR, up_ne, up_at, amSI_2]
            rw [i2 126 (by decide) (by decide)]
          · simp (disch := omega) only [amU_at, amU_ne, amU_nj, amU_neR, up_ne, up_at, amSI_2]
            exact i1 v (by omega)) (fun i a1 a2 => by
          simp (disch := omega) only [amU_at, amU_ne, amU_nj, amU_neR, up_ne, up_at, amSI_2]
          exact i2 i a1 a2) (by
          simp (disch := omega) only [amU_at, amU_ne, amU_nj, amU_neR, up_ne, up_at, amSI_2]
          exact i3) (fun j hj => by
          simp (disch := omega) only [amU_at, amU_ne, amU_nj, amU_neR, up_ne, up_at, amSI_2]
          exact i4 j hj)
        have ml : nI 27 * nI n = nI (27 * n) := amMul _ _
        refine goX6_undo hF 40 ?_
        simp (disch := omega) only [wX6_undo_0, uX6_undo_0, wX6_undo_1, wX6_undo_4, wX6_undo_7, wX6_undo_9, wX6_undo_10, wX6_undo_11, wX6_undo_12, wX6_undo_15, wX6_undo_16, wX6_undo_17, wX6_undo_20, wX6_undo_21, wX6_undo_22, uX6_undo_22, wX6_undo_23, wX6_undo_25, wX6_undo_28, wX6_undo_29, wX6_undo_32, wX6_undo_33, wX6_undo_34, wX6_undo_37, wX6_undo_39, wX6_undo_40, wX6_undo_43, wX6_undo_44, wX6_undo_45, wX6_undo_46, wX6_undo_47, wX6_undo_48, wX6_undo_51, wX6_undo_54, wX6_undo_55, wX6_undo_58, amSI_1, amSI_2, amSI_3, amSI_s, amU_at, amIsR_ref, amIsR_null, amIsR_rf, amRf_some, amRf_none, amClr_int, amClr_ref, amClr_null, amClr_long, amClr_ra, amClr_rf, amFit_int, amFit_oref, amFit_aref, amFit_onull, amFit_anull, amOptSome, amOptNone, List.cons_append, List.nil_append, true_and, and_true, true_implies, not_true_eq_false, not_false_eq_true, false_implies, and_self, Nat.add_zero, Nat.zero_add, ne_eq, Prod.mk.injEq, amC01_0, amC01_1, amC01_nb, amNb0, amNb1, amTcpI_d, Nat.reduceLeDiff, Nat.reduceAdd, Nat.reduceSub, Nat.reduceEqDiff, Nat.le_refl, amN0le, hR.s, hR.r, amLeI, amLtI, amEqI, amLe0, amGt0, amEq0, amNotPosI, amGe0, amVI, amCl_nI, amAdd, amSub, amMul, q, i3, ml]
        exact nx
    have nx := loop 27 0 (amU h.2.1 124 2 (nI n)) (by omega) (fun v hv => absurd hv (Nat.not_lt_zero v)) (fun i a1 a2 => by simp (disch := omega) only [amU_at, amU_ne, amU_nj, amU_neR, up_ne, up_at, amSI_2]) (by simp (disch := omega) only [amU_at, amU_ne, amU_nj, amU_neR, up_ne, up_at, amSI_2]) (fun j hj => by simp (disch := omega) only [amU_at, amU_ne, amU_nj, amU_neR, up_ne, up_at, amSI_2])
    refine goX6_undo hF 40 ?_
    simp (disch := omega) only [wX6_undo_0, uX6_undo_0, wX6_undo_1, wX6_undo_4, wX6_undo_7, wX6_undo_9, wX6_undo_10, wX6_undo_11, wX6_undo_12, wX6_undo_15, wX6_undo_16, wX6_undo_17, wX6_undo_20, wX6_undo_21, wX6_undo_22, uX6_undo_22, wX6_undo_23, wX6_undo_25, wX6_undo_28, wX6_undo_29, wX6_undo_32, wX6_undo_33, wX6_undo_34, wX6_undo_37, wX6_undo_39, wX6_undo_40, wX6_undo_43, wX6_undo_44, wX6_undo_45, wX6_undo_46, wX6_undo_47, wX6_undo_48, wX6_undo_51, wX6_undo_54, wX6_undo_55, wX6_undo_58, amSI_1, amSI_2, amSI_3, amSI_s, amU_at, amIsR_ref, amIsR_null, amIsR_rf, amRf_some, amRf_none, amClr_int, amClr_ref, amClr_null, amClr_long, amClr_ra, amClr_rf, amFit_int, amFit_oref, amFit_aref, amFit_onull, amFit_anull, amOptSome, amOptNone, List.cons_append, List.nil_append, true_and, and_true, true_implies, not_true_eq_false, not_false_eq_true, false_implies, and_self, Nat.add_zero, Nat.zero_add, ne_eq, Prod.mk.injEq, amC01_0, amC01_1, amC01_nb, amNb0, amNb1, amTcpI_d, Nat.reduceLeDiff, Nat.reduceAdd, Nat.reduceSub, Nat.reduceEqDiff, Nat.le_refl, amN0le, hR.s, hR.r, amLeI, amLtI, amEqI, amLe0, amGt0, amEq0, amNotPosI, amGe0, amVI, amCl_nI, amAdd, amSub, amMul, un, z', Nat.add_sub_cancel]
    exact nx
theorem tX6_undo_d {t : Nat} {h : amH} {K : Option Value → amH → Prop} : tX6_undo [.ref t] h K = ∃ X : XS, t = (124 : Nat) ∧ MdW h X ∧ ∀ h', msFr h h' → MdW h' (undoR X).1 → K (some (.int (undoR X).2)) h' := rfl
def tX6_seed : amT := fun as h K => match as with
  | [.ref t, .int x] => ∃ X : XS, t = (124 : Nat) ∧ MdW h X ∧ ∀ h', msFr h h' → MdW h' (seedR X x).1 → K (some (.int (seedR X x).2)) h'
  | _ => False
/-! ReadingStagesModel.seed(I)I -/
def kX6_seed : Nat → Bool := fun pc => false
def rX6_seed : List (Nat × amS) := [(7, 1, 0, 0, amTget 6 0), (14, 1, 0, 0, amTget 6 0)]
def eX6_seed (ret : Option Value → amH → Nat → Nat → Prop) (F : amX) : Nat → amX := amWp cX6_seed kX6_seed (amLk rX6_seed) (some .int) 0 0 ret F
def sX6_seed (ret : Option Value → amH → Nat → Nat → Prop) (F : amX) : Nat → amX := amWs cX6_seed kX6_seed (amLk rX6_seed) (some .int) 0 0 ret F
theorem wX6_seed_0 {ret F n h} {v0 v2 st x} : eX6_seed ret F (n + 1) 0 [v0, .int x, v2] (st) h 0 0 = (eX6_seed ret F n 1 [v0, .int x, v2] (.int x :: st) h 0 0) := (amWp_dec rfl dX6_seed_0 rfl).trans rfl
theorem uX6_seed_0 {ret F n h} {v0 v2 st x} : sX6_seed ret F n 0 [v0, .int x, v2] (st) h 0 0 = (eX6_seed ret F n 1 [v0, .int x, v2] (.int x :: st) h 0 0) := (amWs_dec dX6_seed_0 rfl).trans rfl
theorem wX6_seed_1 {ret F n h} {v0 v1 v2 st x} : eX6_seed ret F (n + 1) 1 [v0, v1, v2] (.int x :: st) h 0 0 = ((0 ≤ x → eX6_seed ret F n 6 [v0, v1, v2] (st) h 0 0) ∧ (¬ 0 ≤ x → eX6_seed ret F n 4 [v0, v1, v2] (st) h 0 0)) := (amWp_dec rfl dX6_seed_1 rfl).trans rfl
theorem wX6_seed_4 {ret F n h} {v0 v1 v2 st} : eX6_seed ret F (n + 1) 4 [v0, v1, v2] (st) h 0 0 = (eX6_seed ret F n 5 [v0, v1, v2] (.int (-1) :: st) h 0 0) := (amWp_dec rfl dX6_seed_4 rfl).trans rfl
theorem wX6_seed_5 {ret F n h} {v0 v1 v2 x} : eX6_seed ret F (n + 1) 5 [v0, v1, v2] ([.int x]) h 0 0 = (ret (some (.int x)) h 0 0) := (amWp_dec rfl dX6_seed_5 rfl).trans (amTrue ⟨_, rfl, rfl⟩)
theorem wX6_seed_6 {ret F n h} {v0 v1 v2 st} : eX6_seed ret F (n + 1) 6 [v0, v1, v2] (st) h 0 0 = (amIsR v0 ∧ eX6_seed ret F n 7 [v0, v1, v2] (v0 :: st) h 0 0) := (amWp_dec rfl dX6_seed_6 rfl).trans rfl
theorem wX6_seed_7 {ret F n h} {v0 v1 v2 a} : eX6_seed ret F (n + 1) 7 [v0, v1, v2] (.ref a :: []) h 0 0 = (h.1 a = (0, 6) ∧ eX6_seed ret F n 10 [v0, v1, v2] (va_rf (h.2.2.2.1 a 0) :: []) h 0 0) := (amWp_dec rfl dX6_seed_7 rfl).trans (amS4 (Nat.le_of_ble_eq_true rfl) (Nat.le_of_ble_eq_true rfl) (Nat.le_of_ble_eq_true rfl) (Nat.le_of_ble_eq_true rfl))
theorem wX6_seed_10 {ret F n h} {v0 v1 v2 st} : eX6_seed ret F (n + 1) 10 [v0, v1, v2] (st) h 0 0 = (eX6_seed ret F n 11 [v0, v1, v2] (.int (nI 5) :: st) h 0 0) := (amWp_dec rfl dX6_seed_10 rfl).trans rfl
theorem wX6_seed_11 {ret F n h} {v0 v1 v2 st x a} : eX6_seed ret F (n + 1) 11 [v0, v1, v2] (.int x :: .ref a :: st) h 0 0 = ((h.1 a).1 = 1 ∧ vp_in x (h.1 a).2 ∧ eX6_seed ret F n 12 [v0, v1, v2] (.int (h.2.1 a x.toNatClampNeg) :: st) h 0 0) := (amWp_dec rfl dX6_seed_11 rfl).trans rfl
theorem wX6_seed_12 {ret F n h} {v0 v1 v2 st x} : eX6_seed ret F (n + 1) 12 [v0, v1, v2] (.int x :: st) h 0 0 = (eX6_seed ret F n 13 [v0, amClr v1, .int x] (st) h 0 0) := (amWp_dec rfl dX6_seed_12 rfl).trans (amTrue (Nat.le_of_ble_eq_true rfl))
theorem wX6_seed_13 {ret F n h} {v0 v1 v2 st} : eX6_seed ret F (n + 1) 13 [v0, v1, v2] (st) h 0 0 = (amIsR v0 ∧ eX6_seed ret F n 14 [v0, v1, v2] (v0 :: st) h 0 0) := (amWp_dec rfl dX6_seed_13 rfl).trans rfl
theorem wX6_seed_14 {ret F n h} {v0 v1 v2 a} : eX6_seed ret F (n + 1) 14 [v0, v1, v2] (.ref a :: []) h 0 0 = (h.1 a = (0, 6) ∧ eX6_seed ret F n 17 [v0, v1, v2] (va_rf (h.2.2.2.1 a 0) :: []) h 0 0) := (amWp_dec rfl dX6_seed_14 rfl).trans (amS4 (Nat.le_of_ble_eq_true rfl) (Nat.le_of_ble_eq_true rfl) (Nat.le_of_ble_eq_true rfl) (Nat.le_of_ble_eq_true rfl))
theorem wX6_seed_17 {ret F n h} {v0 v1 v2 st} : eX6_seed ret F (n + 1) 17 [v0, v1, v2] (st) h 0 0 = (eX6_seed ret F n 18 [v0, v1, v2] (.int (nI 5) :: st) h 0 0) := (amWp_dec rfl dX6_seed_17 rfl).trans rfl
theorem wX6_seed_18 {ret F n h} {v0 v2 st x} : eX6_seed ret F (n + 1) 18 [v0, .int x, v2] (st) h 0 0 = (eX6_seed ret F n 19 [v0, .int x, v2] (.int x :: st) h 0 0) := (amWp_dec rfl dX6_seed_18 rfl).trans rfl
theorem wX6_seed_19 {ret F n h} {v0 v1 v2 st y x a} : eX6_seed ret F (n + 1) 19 [v0, v1, v2] (.int y :: .int x :: .ref a :: st) h 0 0 = ((h.1 a).1 = 1 ∧ vp_in x (h.1 a).2 ∧ amN0 ≤ a ∧ eX6_seed ret F n 20 [v0, v1, v2] (st) (amSI h (amU h.2.1 a x.toNatClampNeg y)) 0 0) := (amWp_dec rfl dX6_seed_19 rfl).trans rfl
theorem wX6_seed_20 {ret F n h} {v0 v1 st x} : eX6_seed ret F (n + 1) 20 [v0, v1, .int x] (st) h 0 0 = (eX6_seed ret F n 21 [v0, v1, .int x] (.int x :: st) h 0 0) := (amWp_dec rfl dX6_seed_20 rfl).trans rfl
theorem wX6_seed_21 {ret F n h} {v0 v1 v2 x} : eX6_seed ret F (n + 1) 21 [v0, v1, v2] ([.int x]) h 0 0 = (ret (some (.int x)) h 0 0) := (amWp_dec rfl dX6_seed_21 rfl).trans (amTrue ⟨_, rfl, rfl⟩)
theorem evX6_seed (l : Launch) (G : amG) : ∀ pc S i sz, amLk rX6_seed pc = some S → decode cX6_seed pc = .ok (i, sz) → amSiteP pc G l yX6_seed.cls yX6_seed.name yX6_seed.desc (amRm 1 0 0) i sz S.1 S.2.1 S.2.2.1 S.2.2.2 := amLk_ok (by
  refine List.forall_mem_cons.mpr ⟨⟨_, _, dX6_seed_7, amSite.P (amSiteGet ⟨_, rfl, by decide, Or.inl q1295⟩)⟩, ?_⟩
  refine List.forall_mem_cons.mpr ⟨⟨_, _, dX6_seed_14, amSite.P (amSiteGet ⟨_, rfl, by decide, Or.inl q1295⟩)⟩, ?_⟩
  exact fun _ h => absurd h List.not_mem_nil)
theorem goX6_seed {ret F} (hF : amCld cX6_seed kX6_seed (amLk rX6_seed) (some .int) 0 0 ret F) (n : Nat) {pc ls st h k z} (q : sX6_seed ret F n pc ls st h k z) : F pc ls st h k z := hF.1 n pc ls st h k z q
theorem metX6_seed (l : Launch) (G : amG) : amMet l G yX6_seed (ws_ yX6_seed cX6_seed 3 (some .int)) 1 0 0 tX6_seed := by
  refine amMet_of (cut := kX6_seed) (by decide +kernel) (evX6_seed l G) ?_
  intro as h K hT
  match as, hT with
  | [.ref t, .int x], ⟨X, e1, w, hK⟩ =>
  refine ⟨Nat.le_of_ble_eq_true rfl, fun F hF => ?_⟩
  show F 0 [.ref t, .int x, .retAddr 0] [] h 0 0
  obtain ⟨t, rfl⟩ : ∃ i : Nat, i = t := ⟨_, rfl⟩
  subst e1
  have hR := w.1
  have hS := w.2.1
  have f5 : h.2.1 125 5 = nI X.1.draw := hS.draw
  by_cases q : x < 0
  · rw [seedR, if_pos q] at hK
    have key := hK h (msFr.rf h) w
    have h1 : (0 ≤ x) = False := eq_false (by rw [Int32.not_le]; exact q)
    refine goX6_seed hF 40 ?_
    simp (disch := omega) only [wX6_seed_0, uX6_seed_0, wX6_seed_1, wX6_seed_4, wX6_seed_5, wX6_seed_6, wX6_seed_7, wX6_seed_10, wX6_seed_11, wX6_seed_12, wX6_seed_13, wX6_seed_14, wX6_seed_17, wX6_seed_18, wX6_seed_19, wX6_seed_20, wX6_seed_21, amSI_1, amSI_2, amSI_3, amSI_s, amU_at, amIsR_ref, amIsR_null, amIsR_rf, amRf_some, amRf_none, amClr_int, amClr_ref, amClr_null, amClr_long, amClr_ra, amClr_rf, amFit_int, amFit_oref, amFit_aref, amFit_onull, amFit_anull, amOptSome, amOptNone, List.cons_append, List.nil_append, true_and, and_true, true_implies, not_true_eq_false, not_false_eq_true, false_implies, and_self, Nat.add_zero, Nat.zero_add, ne_eq, Prod.mk.injEq, amC01_0, amC01_1, amC01_nb, amNb0, amNb1, amTcpI_d, Nat.reduceLeDiff, Nat.reduceAdd, Nat.reduceSub, Nat.reduceEqDiff, Nat.le_refl, amN0le, hR.s, hR.r, h1]
    exact amRet.of (by decide) (by decide) key
  · rw [seedR, if_neg q] at hK
    have hc := clamp_lt x
    have ex := clamp_id q
    have h1 : (0 ≤ x) = True := eq_true (by rw [← Int32.not_lt]; exact q)
    generalize x.toNatClampNeg = k at hc ex hK
    subst ex
    obtain ⟨g1, g2⟩ := w.of (m := amU h.2.1 125 5 (nI k)) (S' := X.1.setD k) (U' := X.2.1) (RwIs.mk hS.n7 hS.ls hS.la (by
      simp (disch := omega) only [amU_at, amU_ne, amU_nj, amU_neR, up_ne, up_at, amSI_2]
      exact hS.n) (by
      simp (disch := omega) only [amU_at, amU_ne, amU_nj, amU_neR, up_ne, up_at, amSI_2]
      exact hS.prior) (by
      simp (disch := omega) only [amU_at, amU_ne, amU_nj, amU_neR, up_ne, up_at, amSI_2]
      exact hS.span) (by
      simp (disch := omega) only [amU_at, amU_ne, amU_nj, amU_neR, up_ne, up_at, amSI_2]
      exact hS.bound) (by
      simp (disch := omega) only [amU_at, amU_ne, amU_nj, amU_neR, up_ne, up_at, amSI_2]
      exact hS.rule) (by
      simp (disch := omega) only [amU_at, amU_ne, amU_nj, amU_neR, up_ne, up_at, amSI_2]
      rfl) (fun k hk => by
      simp (disch := omega) only [amU_at, amU_ne, amU_nj, amU_neR, up_ne, up_at, amSI_2]
      exact hS.o0 k hk) (fun k hk => by
      simp (disch := omega) only [amU_at, amU_ne, amU_nj, amU_neR, up_ne, up_at, amSI_2]
      exact hS.s0 k hk) (fun k hk => by
      simp (disch := omega) only [amU_at, amU_ne, amU_nj, amU_neR, up_ne, up_at, amSI_2]
      exact hS.a0 k hk)) (w.2.2.1.kept (by simp (disch := omega) only [amU_at, amU_ne, amU_nj, amU_neR, up_ne, up_at, amSI_2]) (by funext j; simp (disch := omega) only [amU_at, amU_ne, amU_nj, amU_neR, up_ne, up_at, amSI_2])) (fun i a1 a2 a3 a4 a5 => by simp (disch := omega) only [amU_at, amU_ne, amU_nj, amU_neR, up_ne, up_at, amSI_2]) (by simp (disch := omega) only [amU_at, amU_ne, amU_nj, amU_neR, up_ne, up_at, amSI_2]) (by simp (disch := omega) only [amU_at, amU_ne, amU_nj, amU_neR, up_ne, up_at, amSI_2])
    have key := hK _ g1 g2
    refine goX6_seed hF 40 ?_
    simp (disch := omega) only [wX6_seed_0, uX6_seed_0, wX6_seed_1, wX6_seed_4, wX6_seed_5, wX6_seed_6, wX6_seed_7, wX6_seed_10, wX6_seed_11, wX6_seed_12, wX6_seed_13, wX6_seed_14, wX6_seed_17, wX6_seed_18, wX6_seed_19, wX6_seed_20, wX6_seed_21, amSI_1, amSI_2, amSI_3, amSI_s, amU_at, amIsR_ref, amIsR_null, amIsR_rf, amRf_some, amRf_none, amClr_int, amClr_ref, amClr_null, amClr_long, amClr_ra, amClr_rf, amFit_int, amFit_oref, amFit_aref, amFit_onull, amFit_anull, amOptSome, amOptNone, List.cons_append, List.nil_append, true_and, and_true, true_implies, not_true_eq_false, not_false_eq_true, false_implies, and_self, Nat.add_zero, Nat.zero_add, ne_eq, Prod.mk.injEq, amC01_0, amC01_1, amC01_nb, amNb0, amNb1, amTcpI_d, Nat.reduceLeDiff, Nat.reduceAdd, Nat.reduceSub, Nat.reduceEqDiff, Nat.le_refl, amN0le, hR.s, hR.r, h1, amVI, amCl_nI, f5]
    exact amRet.of (by decide) (by decide) key
theorem tX6_seed_d {t : Nat} {x : Int32} {h : amH} {K : Option Value → amH → Prop} : tX6_seed [.ref t, .int x] h K = ∃ X : XS, t = (124 : Nat) ∧ MdW h X ∧ ∀ h', msFr h h' → MdW h' (seedR X x).1 → K (some (.int (seedR X x).2)) h' := rfl
theorem MdW.img {h : amH} {X : XS} (w : MdW h X) {m : Nat → Nat → Int32} {o : Option (HS × List HS)} (ho : ImM m o) (e : ∀ i : Nat, i ≠ 124 → i ≠ 127 → i ≠ 128 → m i = h.2.1 i) (e4 : ∀ j : Nat, j ≠ 5 → m 124 j = h.2.1 124 j) : msFr h (amSI h m) ∧ MdW (amSI h m) (X.1, X.2.1, o, X.2.2.2) := ⟨msFr.si (fun i hi => e i (by omega) (by omega) (by omega)), w.1, w.2.1.kept (e 125 (by decide) (by decide) (by decide)), w.2.2.1.kept (e4 2 (by decide)) (e 126 (by decide) (by decide) (by decide)), ho, w.2.2.2.2.1.kept (e4 7 (by decide)) (e 129 (by decide) (by decide) (by decide)), w.2.2.2.2.2.kept (e 130 (by decide) (by decide) (by decide)) (e 131 (by decide) (by decide) (by decide)) rfl⟩
def tX6_image : amT := fun as h K => match as with
  | [.ref t] => ∃ X : XS, t = (124 : Nat) ∧ MdW h X ∧ ∀ h', msFr h h' → MdW h' (imageR X).1 → K (some (.int (imageR X).2)) h'
  | _ => False
/-! ReadingStagesModel.image()I -/
def kX6_image : Nat → Bool := fun pc => pc == 2 || pc == 28
def rX6_image : List (Nat × amS) := [(9, 1, 0, 0, amTget 6 3), (14, 1, 0, 0, amTget 6 0), (36, 1, 0, 0, amTget 6 4), (41, 1, 0, 0, amTget 6 1), (55, 1, 0, 0, amTget 6 2), (58, 2, 0, 0, amTput 6 5)]
def eX6_image (ret : Option Value → amH → Nat → Nat → Prop) (F : amX) : Nat → amX := amWp cX6_image kX6_image (amLk rX6_image) (some .int) 0 0 ret F
def sX6_image (ret : Option Value → amH → Nat → Nat → Prop) (F : amX) : Nat → amX := amWs cX6_image kX6_image (amLk rX6_image) (some .int) 0 0 ret F
theorem wX6_image_0 {ret F n h} {v0 v1 st} : eX6_image ret F (n + 1) 0 [v0, v1] (st) h 0 0 = (eX6_image ret F n 1 [v0, v1] (.int (nI 0) :: st) h 0 0) := (amWp_dec rfl dX6_image_0 rfl).trans rfl
theorem uX6_image_0 {ret F n h} {v0 v1 st} : sX6_image ret F n 0 [v0, v1] (st) h 0 0 = (eX6_image ret F n 1 [v0, v1] (.int (nI 0) :: st) h 0 0) := (amWs_dec dX6_image_0 rfl).trans rfl
theorem wX6_image_1 {ret F n h} {v0 v1 st x} : eX6_image ret F (n + 1) 1 [v0, v1] (.int x :: st) h 0 0 = (eX6_image ret F n 2 [amClr v0, .int x] (st) h 0 0) := (amWp_dec rfl dX6_image_1 rfl).trans (amTrue (Nat.le_of_ble_eq_true rfl))
theorem wX6_image_2 {ret F n ls st h k z} : eX6_image ret F (n + 1) 2 ls st h k z = F 2 ls st h k z := amWp_cut rfl
theorem uX6_image_2 {ret F n h} {v0 st x} : sX6_image ret F n 2 [v0, .int x] (st) h 0 0 = (eX6_image ret F n 3 [v0, .int x] (.int x :: st) h 0 0) := (amWs_dec dX6_image_2 rfl).trans rfl
theorem wX6_image_3 {ret F n h} {v0 v1 st} : eX6_image ret F (n + 1) 3 [v0, v1] (st) h 0 0 = (eX6_image ret F n 5 [v0, v1] (.int (nI 27) :: st) h 0 0) := (amWp_dec rfl dX6_image_3 rfl).trans rfl
theorem wX6_image_5 {ret F n h} {v0 v1 st y x} : eX6_image ret F (n + 1) 5 [v0, v1] (.int y :: .int x :: st) h 0 0 = ((y ≤ x → eX6_image ret F n 26 [v0, v1] (st) h 0 0) ∧ (¬ y ≤ x → eX6_image ret F n 8 [v0, v1] (st) h 0 0)) := (amWp_dec rfl dX6_image_5 rfl).trans rfl
theorem wX6_image_8 {ret F n h} {v0 v1 st} : eX6_image ret F (n + 1) 8 [v0, v1] (st) h 0 0 = (amIsR v0 ∧ eX6_image ret F n 9 [v0, v1] (v0 :: st) h 0 0) := (amWp_dec rfl dX6_image_8 rfl).trans rfl
theorem wX6_image_9 {ret F n h} {v0 v1 a} : eX6_image ret F (n + 1) 9 [v0, v1] (.ref a :: []) h 0 0 = (h.1 a = (0, 6) ∧ eX6_image ret F n 12 [v0, v1] (va_rf (h.2.2.2.1 a 3) :: []) h 0 0) := (amWp_dec rfl dX6_image_9 rfl).trans (amS4 (Nat.le_of_ble_eq_true rfl) (Nat.le_of_ble_eq_true rfl) (Nat.le_of_ble_eq_true rfl) (Nat.le_of_ble_eq_true rfl))
theorem wX6_image_12 {ret F n h} {v0 st x} : eX6_image ret F (n + 1) 12 [v0, .int x] (st) h 0 0 = (eX6_image ret F n 13 [v0, .int x] (.int x :: st) h 0 0) := (amWp_dec rfl dX6_image_12 rfl).trans rfl
theorem wX6_image_13 {ret F n h} {v0 v1 st} : eX6_image ret F (n + 1) 13 [v0, v1] (st) h 0 0 = (amIsR v0 ∧ eX6_image ret F n 14 [v0, v1] (v0 :: st) h 0 0) := (amWp_dec rfl dX6_image_13 rfl).trans rfl
theorem wX6_image_14 {ret F n h} {v0 v1 r0 r1 a} : eX6_image ret F (n + 1) 14 [v0, v1] (.ref a :: r0 :: r1 :: []) h 0 0 = (h.1 a = (0, 6) ∧ eX6_image ret F n 17 [v0, v1] (va_rf (h.2.2.2.1 a 0) :: r0 :: r1 :: []) h 0 0) := (amWp_dec rfl dX6_image_14 rfl).trans (amS4 (Nat.le_of_ble_eq_true rfl) (Nat.le_of_ble_eq_true rfl) (Nat.le_of_ble_eq_true rfl) (Nat.le_of_ble_eq_true rfl))
theorem wX6_image_17 {ret F n h} {v0 st x} : eX6_image ret F (n + 1) 17 [v0, .int x] (st) h 0 0 = (eX6_image ret F n 18 [v0, .int x] (.int x :: st) h 0 0) := (amWp_dec rfl dX6_image_17 rfl).trans rfl
theorem wX6_image_18 {ret F n h} {v0 v1 st x a} : eX6_image ret F (n + 1) 18 [v0, v1] (.int x :: .ref a :: st) h 0 0 = ((h.1 a).1 = 1 ∧ vp_in x (h.1 a).2 ∧ eX6_image ret F n 19 [v0, v1] (.int (h.2.1 a x.toNatClampNeg) :: st) h 0 0) := (amWp_dec rfl dX6_image_18 rfl).trans rfl
theorem wX6_image_19 {ret F n h} {v0 v1 st y x a} : eX6_image ret F (n + 1) 19 [v0, v1] (.int y :: .int x :: .ref a :: st) h 0 0 = ((h.1 a).1 = 1 ∧ vp_in x (h.1 a).2 ∧ amN0 ≤ a ∧ eX6_image ret F n 20 [v0, v1] (st) (amSI h (amU h.2.1 a x.toNatClampNeg y)) 0 0) := (amWp_dec rfl dX6_image_19 rfl).trans rfl
theorem wX6_image_20 {ret F n h} {v0 st x} : eX6_image ret F (n + 1) 20 [v0, .int x] (st) h 0 0 = (eX6_image ret F n 23 [amClr v0, .int (x + nI 1)] (st) h 0 0) := (amWp_dec rfl dX6_image_20 rfl).trans rfl
theorem wX6_image_23 {ret F n h} {v0 v1 st} : eX6_image ret F (n + 1) 23 [v0, v1] (st) h 0 0 = (eX6_image ret F n 2 [v0, v1] (st) h 0 0) := (amWp_dec rfl dX6_image_23 rfl).trans rfl
theorem wX6_image_26 {ret F n h} {v0 v1 st} : eX6_image ret F (n + 1) 26 [v0, v1] (st) h 0 0 = (eX6_image ret F n 27 [v0, v1] (.int (nI 0) :: st) h 0 0) := (amWp_dec rfl dX6_image_26 rfl).trans rfl
theorem wX6_image_27 {ret F n h} {v0 v1 st x} : eX6_image ret F (n + 1) 27 [v0, v1] (.int x :: st) h 0 0 = (eX6_image ret F n 28 [amClr v0, .int x] (st) h 0 0) := (amWp_dec rfl dX6_image_27 rfl).trans (amTrue (Nat.le_of_ble_eq_true rfl))
theorem wX6_image_28 {ret F n ls st h k z} : eX6_image ret F (n + 1) 28 ls st h k z = F 28 ls st h k z := amWp_cut rfl
theorem uX6_image_28 {ret F n h} {v0 st x} : sX6_image ret F n 28 [v0, .int x] (st) h 0 0 = (eX6_image ret F n 29 [v0, .int x] (.int x :: st) h 0 0) := (amWs_dec dX6_image_28 rfl).trans rfl
theorem wX6_image_29 {ret F n h} {v0 v1 st} : eX6_image ret F (n + 1) 29 [v0, v1] (st) h 0 0 = (eX6_image ret F n 32 [v0, v1] (.int (nI 162) :: st) h 0 0) := (amWp_dec rfl dX6_image_29 rfl).trans rfl
theorem wX6_image_32 {ret F n h} {v0 v1 st y x} : eX6_image ret F (n + 1) 32 [v0, v1] (.int y :: .int x :: st) h 0 0 = ((y ≤ x → eX6_image ret F n 53 [v0, v1] (st) h 0 0) ∧ (¬ y ≤ x → eX6_image ret F n 35 [v0, v1] (st) h 0 0)) := (amWp_dec rfl dX6_image_32 rfl).trans rfl
theorem wX6_image_35 {ret F n h} {v0 v1 st} : eX6_image ret F (n + 1) 35 [v0, v1] (st) h 0 0 = (amIsR v0 ∧ eX6_image ret F n 36 [v0, v1] (v0 :: st) h 0 0) := (amWp_dec rfl dX6_image_35 rfl).trans rfl
theorem wX6_image_36 {ret F n h} {v0 v1 a} : eX6_image ret F (n + 1) 36 [v0, v1] (.ref a :: []) h 0 0 = (h.1 a = (0, 6) ∧ eX6_image ret F n 39 [v0, v1] (va_rf (h.2.2.2.1 a 4) :: []) h 0 0) := (amWp_dec rfl dX6_image_36 rfl).trans (amS4 (Nat.le_of_ble_eq_true rfl) (Nat.le_of_ble_eq_true rfl) (Nat.le_of_ble_eq_true rfl) (Nat.le_of_ble_eq_true rfl))
theorem wX6_image_39 {ret F n h} {v0 st x} : eX6_image ret F (n + 1) 39 [v0, .int x] (st) h 0 0 = (eX6_image ret F n 40 [v0, .int x] (.int x :: st) h 0 0) := (amWp_dec rfl dX6_image_39 rfl).trans rfl
theorem wX6_image_40 {ret F n h} {v0 v1 st} : eX6_image ret F (n + 1) 40 [v0, v1] (st) h 0 0 = (amIsR v0 ∧ eX6_image ret F n 41 [v0, v1] (v0 :: st) h 0 0) := (amWp_dec rfl dX6_image_40 rfl).trans rfl
theorem wX6_image_41 {ret F n h} {v0 v1 r0 r1 a} : eX6_image ret F (n + 1) 41 [v0, v1] (.ref a :: r0 :: r1 :: []) h 0 0 = (h.1 a = (0, 6) ∧ eX6_image ret F n 44 [v0, v1] (va_rf (h.2.2.2.1 a 1) :: r0 :: r1 :: []) h 0 0) := (amWp_dec rfl dX6_image_41 rfl).trans (amS4 (Nat.le_of_ble_eq_true rfl) (Nat.le_of_ble_eq_true rfl) (Nat.le_of_ble_eq_true rfl) (Nat.le_of_ble_eq_true rfl))
theorem wX6_image_44 {ret F n h} {v0 st x} : eX6_image ret F (n + 1) 44 [v0, .int x] (st) h 0 0 = (eX6_image ret F n 45 [v0, .int x] (.int x :: st) h 0 0) := (amWp_dec rfl dX6_image_44 rfl).trans rfl
theorem wX6_image_45 {ret F n h} {v0 v1 st x a} : eX6_image ret F (n + 1) 45 [v0, v1] (.int x :: .ref a :: st) h 0 0 = ((h.1 a).1 = 1 ∧ vp_in x (h.1 a).2 ∧ eX6_image ret F n 46 [v0, v1] (.int (h.2.1 a x.toNatClampNeg) :: st) h 0 0) := (amWp_dec rfl dX6_image_45 rfl).trans rfl
theorem wX6_image_46 {ret F n h} {v0 v1 st y x a} : eX6_image ret F (n + 1) 46 [v0, v1] (.int y :: .int x :: .ref a :: st) h 0 0 = ((h.1 a).1 = 1 ∧ vp_in x (h.1 a).2 ∧ amN0 ≤ a ∧ eX6_image ret F n 47 [v0, v1] (st) (amSI h (amU h.2.1 a x.toNatClampNeg y)) 0 0) := (amWp_dec rfl dX6_image_46 rfl).trans rfl
theorem wX6_image_47 {ret F n h} {v0 st x} : eX6_image ret F (n + 1) 47 [v0, .int x] (st) h 0 0 = (eX6_image ret F n 50 [amClr v0, .int (x + nI 1)] (st) h 0 0) := (amWp_dec rfl dX6_image_47 rfl).trans rfl
theorem wX6_image_50 {ret F n h} {v0 v1 st} : eX6_image ret F (n + 1) 50 [v0, v1] (st) h 0 0 = (eX6_image ret F n 28 [v0, v1] (st) h 0 0) := (amWp_dec rfl dX6_image_50 rfl).trans rfl
theorem wX6_image_53 {ret F n h} {v0 v1 st} : eX6_image ret F (n + 1) 53 [v0, v1] (st) h 0 0 = (amIsR v0 ∧ eX6_image ret F n 54 [v0, v1] (v0 :: st) h 0 0) := (amWp_dec rfl dX6_image_53 rfl).trans rfl
theorem wX6_image_54 {ret F n h} {v0 v1 st} : eX6_image ret F (n + 1) 54 [v0, v1] (st) h 0 0 = (amIsR v0 ∧ eX6_image ret F n 55 [v0, v1] (v0 :: st) h 0 0) := (amWp_dec rfl dX6_image_54 rfl).trans rfl
theorem wX6_image_55 {ret F n h} {v0 v1 r0 a} : eX6_image ret F (n + 1) 55 [v0, v1] (.ref a :: r0 :: []) h 0 0 = (h.1 a = (0, 6) ∧ eX6_image ret F n 58 [v0, v1] (.int (h.2.1 a 2) :: r0 :: []) h 0 0) := (amWp_dec rfl dX6_image_55 rfl).trans (amS4 (Nat.le_of_ble_eq_true rfl) (Nat.le_of_ble_eq_true rfl) (Nat.le_of_ble_eq_true rfl) (Nat.le_of_ble_eq_true rfl))
theorem wX6_image_58 {ret F n h} {v0 v1 x a} : eX6_image ret F (n + 1) 58 [v0, v1] (.int x :: .ref a :: []) h 0 0 = (h.1 a = (0, 6) ∧ amN0 ≤ a ∧ amFit .int (.int x) ∧ eX6_image ret F n 61 [v0, v1] ([]) (amSI h (amU h.2.1 a 5 x)) 0 0) := (amWp_dec rfl dX6_image_58 rfl).trans (amS4 (Nat.le_of_ble_eq_true rfl) (Nat.le_of_ble_eq_true rfl) (Nat.le_of_ble_eq_true rfl) (Nat.le_of_ble_eq_true rfl))
theorem wX6_image_61 {ret F n h} {v0 v1 st} : eX6_image ret F (n + 1) 61 [v0, v1] (st) h 0 0 = (eX6_image ret F n 62 [v0, v1] (.int (nI 1) :: st) h 0 0) := (amWp_dec rfl dX6_image_61 rfl).trans rfl
theorem wX6_image_62 {ret F n h} {v0 v1 x} : eX6_image ret F (n + 1) 62 [v0, v1] ([.int x]) h 0 0 = (ret (some (.int x)) h 0 0) := (amWp_dec rfl dX6_image_62 rfl).trans (amTrue ⟨_, rfl, rfl⟩)
theorem evX6_image (l : Launch) (G : amG) : ∀ pc S i sz, amLk rX6_image pc = some S → decode cX6_image pc = .ok (i, sz) → amSiteP pc G l yX6_image.cls yX6_image.name yX6_image.desc (amRm 1 0 0) i sz S.1 S.2.1 S.2.2.1 S.2.2.2 := amLk_ok (by
  refine List.forall_mem_cons.mpr ⟨⟨_, _, dX6_image_9, amSite.P (amSiteGet ⟨_, rfl, by decide, Or.inl q1298⟩)⟩, ?_⟩
  refine List.forall_mem_cons.mpr ⟨⟨_, _, dX6_image_14, amSite.P (amSiteGet ⟨_, rfl, by decide, Or.inl q1295⟩)⟩, ?_⟩
  refine List.forall_mem_cons.mpr ⟨⟨_, _, dX6_image_36, amSite.P (amSiteGet ⟨_, rfl, by decide, Or.inl q1299⟩)⟩, ?_⟩
  refine List.forall_mem_cons.mpr ⟨⟨_, _, dX6_image_41, amSite.P (amSiteGet ⟨_, rfl, by decide, Or.inl q1296⟩)⟩, ?_⟩
  refine List.forall_mem_cons.mpr ⟨⟨_, _, dX6_image_55, amSite.P (amSiteGet ⟨_, rfl, by decide, Or.inl q1297⟩)⟩, ?_⟩
  refine List.forall_mem_cons.mpr ⟨⟨_, _, dX6_image_58, amSite.P (amSitePut ⟨_, rfl, by decide, Or.inl q1300⟩ (fun q h => by cases h; rfl))⟩, ?_⟩
  exact fun _ h => absurd h List.not_mem_nil)
theorem goX6_image {ret F} (hF : amCld cX6_image kX6_image (amLk rX6_image) (some .int) 0 0 ret F) (n : Nat) {pc ls st h k z} (q : sX6_image ret F n pc ls st h k z) : F pc ls st h k z := hF.1 n pc ls st h k z q
theorem metX6_image (l : Launch) (G : amG) : amMet l G yX6_image (ws_ yX6_image cX6_image 2 (some .int)) 1 0 0 tX6_image := by
  refine amMet_of (cut := kX6_image) (by decide +kernel) (evX6_image l G) ?_
  intro as h K hT
  match as, hT with
  | [.ref t], ⟨X, e1, w, hK⟩ =>
  refine ⟨Nat.le_of_ble_eq_true rfl, fun F hF => ?_⟩
  show F 0 [.ref t, .retAddr 0] [] h 0 0
  obtain ⟨t, rfl⟩ : ∃ i : Nat, i = t := ⟨_, rfl⟩
  subst e1
  have hR := w.1
  obtain ⟨u6, un, ur⟩ := w.2.2.1
  have loop2 : ∀ t p m, p + t = 162 → (∀ v : Nat, v < 27 → m 127 v = h.2.1 125 v) → (∀ v : Nat, v < p → m 128 v = h.2.1 126 v) → (∀ i : Nat, i ≠ 127 → i ≠ 128 → m i = h.2.1 i) → F 28 [.ref 124, .int (nI p)] [] (amSI h m) 0 0 := by
    intro t
    induction t with
    | zero =>
      intro p m e i1 i2 i3
      have e : p = 162 := by omega
      subst e
      have m2 : m 124 2 = nI X.2.1.length := by rw [i3 124 (by decide) (by decide)]; exact un
      obtain ⟨g1, g2⟩ := w.img (m := amU m 124 5 (nI X.2.1.length)) (o := some (X.1, X.2.1)) ⟨u6, by simp (disch := omega) only [amU_at, amU_ne, amU_nj, amU_neR, up_ne, up_at, amSI_2], w.2.1.copy (fun k hk => by
        simp (disch := omega) only [amU_at, amU_ne, amU_nj, amU_neR, up_ne, up_at, amSI_2]
        rw [Nat.zero_add]
        exact i1 k hk), fun k hk => (ur k hk).copy (fun j hj => by
        simp (disch := omega) only [amU_at, amU_ne, amU_nj, amU_neR, up_ne, up_at, amSI_2]
        exact i2 _ (by omega))⟩ (fun i a1 a2 a3 => by
        simp (disch := omega) only [amU_at, amU_ne, amU_nj, amU_neR, up_ne, up_at, amSI_2]
        exact i3 i a2 a3) (fun j hj => by
        simp (disch := omega) only [amU_at, amU_ne, amU_nj, amU_neR, up_ne, up_at, amSI_2]
        rw [i3 124 (by decide) (by decide)])
      have key := hK _ g1 g2
      refine goX6_image hF 40 ?_
      simp (disch := omega) only [wX6_image_0, uX6_image_0, wX6_image_1, wX6_image_2, uX6_image_2, wX6_image_3, wX6_image_5, wX6_image_8, wX6_image_9, wX6_image_12, wX6_image_13, wX6_image_14, wX6_image_17, wX6_image_18, wX6_image_19, wX6_image_20, wX6_image_23, wX6_image_26, wX6_image_27, wX6_image_28, uX6_image_28, wX6_image_29, wX6_image_32, wX6_image_35, wX6_image_36, wX6_image_39, wX6_image_40, wX6_image_41, wX6_image_44, wX6_image_45, wX6_image_46, wX6_image_47, wX6_image_50, wX6_image_53, wX6_image_54, wX6_image_55, wX6_image_58, wX6_image_61, wX6_image_62, amSI_1, amSI_2, amSI_3, amSI_s, amU_at, amIsR_ref, amIsR_null, amIsR_rf, amRf_some, amRf_none, amClr_int, amClr_ref, amClr_null, amClr_long, amClr_ra, amClr_rf, amFit_int, amFit_oref, amFit_aref, amFit_onull, amFit_anull, amOptSome, amOptNone, List.cons_append, List.nil_append, true_and, and_true, true_implies, not_true_eq_false, not_false_eq_true, false_implies, and_self, Nat.add_zero, Nat.zero_add, ne_eq, Prod.mk.injEq, amC01_0, amC01_1, amC01_nb, amNb0, amNb1, amTcpI_d, Nat.reduceLeDiff, Nat.reduceAdd, Nat.reduceSub, Nat.reduceEqDiff, Nat.le_refl, amN0le, hR.s, hR.r, amLeI, amLtI, amEqI, amLe0, amGt0, amEq0, amNotPosI, amGe0, amVI, amCl_nI, amAdd, amSub, amMul, m2]
      exact amRet.of (by decide) (by decide) key
    | succ t ih =>
      intro p m e i1 i2 i3
      have q : (162 ≤ p) = False := eq_false (by omega)
      have nx := ih (p + 1) (amU m 128 p (m 126 p)) (by omega) (fun v hv => by
        simp (disch := omega) only [amU_at, amU_ne, amU_nj, amU_neR, up_ne, up_at, amSI_2]
        exact i1 v hv) (fun v hv => by
        by_cases y : v = p
        · subst y
          simp (disch := omega) only [amU_at, amU_ne, amU_nj, amU_neR, up_ne, up_at, amSI_2]
          rw [i3 126 (by decide) (by decide)]
        · simp (disch := omega) only [amU_at, amU_ne, amU_nj, amU_neR, up_ne, up_at, amSI_2]
          exact i2 v (by omega)) (fun i a1 a2 => by
        simp (disch := omega) only [amU_at, amU_ne, amU_nj, amU_neR, up_ne, up_at, amSI_2]
        exact i3 i a1 a2)
      refine goX6_image hF 40 ?_
      simp (disch := omega) only [wX6_image_0, uX6_image_0, wX6_image_1, wX6_image_2, uX6_image_2, wX6_image_3, wX6_image_5, wX6_image_8, wX6_image_9, wX6_image_12, wX6_image_13, wX6_image_14, wX6_image_17, wX6_image_18, wX6_image_19, wX6_image_20, wX6_image_23, wX6_image_26, wX6_image_27, wX6_image_28, uX6_image_28, wX6_image_29, wX6_image_32, wX6_image_35, wX6_image_36, wX6_image_39, wX6_image_40, wX6_image_41, wX6_image_44, wX6_image_45, wX6_image_46, wX6_image_47, wX6_image_50, wX6_image_53, wX6_image_54, wX6_image_55, wX6_image_58, wX6_image_61, wX6_image_62, amSI_1, amSI_2, amSI_3, amSI_s, amU_at, amIsR_ref, amIsR_null, amIsR_rf, amRf_some, amRf_none, amClr_int, amClr_ref, amClr_null, amClr_long, amClr_ra, amClr_rf, amFit_int, amFit_oref, amFit_aref, amFit_onull, amFit_anull, amOptSome, amOptNone, List.cons_append, List.nil_append, true_and, and_true, true_implies, not_true_eq_false, not_false_eq_true, false_implies, and_self, Nat.add_zero, Nat.zero_add, ne_eq, Prod.mk.injEq, amC01_0, amC01_1, amC01_nb, amNb0, amNb1, amTcpI_d, Nat.reduceLeDiff, Nat.reduceAdd, Nat.reduceSub, Nat.reduceEqDiff, Nat.le_refl, amN0le, hR.s, hR.r, amLeI, amLtI, amEqI, amLe0, amGt0, amEq0, amNotPosI, amGe0, amVI, amCl_nI, amAdd, amSub, amMul, q]
      exact nx
  have loop1 : ∀ t p m, p + t = 27 → (∀ v : Nat, v < p → m 127 v = h.2.1 125 v) → (∀ i : Nat, i ≠ 127 → m i = h.2.1 i) → F 2 [.ref 124, .int (nI p)] [] (amSI h m) 0 0 := by
    intro t
    induction t with
    | zero =>
      intro p m e i1 i2
      have e : p = 27 := by omega
      subst e
      have nx := loop2 162 0 m (by omega) i1 (fun v hv => absurd hv (Nat.not_lt_zero v)) (fun i a1 _ => i2 i a1)
      refine goX6_image hF 40 ?_
      simp (disch := omega) only [wX6_image_0, uX6_image_0, wX6_image_1, wX6_image_2, uX6_image_2, wX6_image_3, wX6_image_5, wX6_image_8, wX6_image_9, wX6_image_12, wX6_image_13, wX6_image_14, wX6_image_17, wX6_image_18, wX6_image_19, wX6_image_20, wX6_image_23, wX6_image_26, wX6_image_27, wX6_image_28, uX6_image_28, wX6_image_29, wX6_image_32, wX6_image_35, wX6_image_36, wX6_image_39, wX6_image_40, wX6_image_41, wX6_image_44, wX6_image_45, wX6_image_46, wX6_image_47, wX6_image_50, wX6_image_53, wX6_image_54, wX6_image_55, wX6_image_58, wX6_image_61, wX6_image_62, amSI_1, amSI_2, amSI_3, amSI_s, amU_at, amIsR_ref, amIsR_null, amIsR_rf, amRf_some, amRf_none, amClr_int, amClr_ref, amClr_null, amClr_long, amClr_ra, amClr_rf, amFit_int, amFit_oref, amFit_aref, amFit_onull, amFit_anull, amOptSome, amOptNone, List.cons_append, List.nil_append, true_and, and_true, true_implies, not_true_eq_false, not_false_eq_true, false_implies, and_self, Nat.add_zero, Nat.zero_add, ne_eq, Prod.mk.injEq, amC01_0, amC01_1, amC01_nb, amNb0, amNb1, amTcpI_d, Nat.reduceLeDiff, Nat.reduceAdd, Nat.reduceSub, Nat.reduceEqDiff, Nat.le_refl, amN0le, hR.s, hR.r, amLeI, amLtI, amEqI, amLe0, amGt0, amEq0, amNotPosI, amGe0, amVI, amCl_nI, amAdd, amSub, amMul]
      exact nx
    | succ t ih =>
      intro p m e i1 i2
      have q : (27 ≤ p) = False := eq_false (by omega)
      have nx := ih (p + 1) (amU m 127 p (m 125 p)) (by omega) (fun v hv => by
        by_cases y : v = p
        · subst y
          simp (disch := omega) only [amU_at, amU_ne, amU_nj, amU_neR, up_ne, up_at, amSI_2]
          rw [i2 125 (by decide)]
        · simp (disch := omega) only [amU_at, amU_ne, amU_nj, amU_neR, up_ne, up_at, amSI_2]
          exact i1 v (by omega)) (fun i a1 => by
        simp (disch := omega) only [amU_at, amU_ne, amU_nj, amU_neR, up_ne, up_at, amSI_2]
        exact i2 i a1)
      refine goX6_image hF 40 ?_
      simp (disch := omega) only [wX6_image_0, uX6_image_0, wX6_image_1, wX6_image_2, uX6_image_2, wX6_image_3, wX6_image_5, wX6_image_8, wX6_image_9, wX6_image_12, wX6_image_13, wX6_image_14, wX6_image_17, wX6_image_18, wX6_image_19, wX6_image_20, wX6_image_23, wX6_image_26, wX6_image_27, wX6_image_28, uX6_image_28, wX6_image_29, wX6_image_32, wX6_image_35, wX6_image_36, wX6_image_39, wX6_image_40, wX6_image_41, wX6_image_44, wX6_image_45, wX6_image_46, wX6_image_47, wX6_image_50, wX6_image_53, wX6_image_54, wX6_image_55, wX6_image_58, wX6_image_61, wX6_image_62, amSI_1, amSI_2, amSI_3, amSI_s, amU_at, amIsR_ref, amIsR_null, amIsR_rf, amRf_some, amRf_none, amClr_int, amClr_ref, amClr_null, amClr_long, amClr_ra, amClr_rf, amFit_int, amFit_oref, amFit_aref, amFit_onull, amFit_anull, amOptSome, amOptNone, List.cons_append, List.nil_append, true_and, and_true, true_implies, not_true_eq_false, not_false_eq_true, false_implies, and_self, Nat.add_zero, Nat.zero_add, ne_eq, Prod.mk.injEq, amC01_0, amC01_1, amC01_nb, amNb0, amNb1, amTcpI_d, Nat.reduceLeDiff, Nat.reduceAdd, Nat.reduceSub, Nat.reduceEqDiff, Nat.le_refl, amN0le, hR.s, hR.r, amLeI, amLtI, amEqI, amLe0, amGt0, amEq0, amNotPosI, amGe0, amVI, amCl_nI, amAdd, amSub, amMul, q]
      exact nx
  have nx := loop1 27 0 h.2.1 (by omega) (fun v hv => absurd hv (Nat.not_lt_zero v)) (fun _ _ => rfl)
  refine goX6_image hF 40 ?_
  simp (disch := omega) only [wX6_image_0, uX6_image_0, wX6_image_1, wX6_image_2, uX6_image_2, wX6_image_3, wX6_image_5, wX6_image_8, wX6_image_9, wX6_image_12, wX6_image_13, wX6_image_14, wX6_image_17, wX6_image_18, wX6_image_19, wX6_image_20, wX6_image_23, wX6_image_26, wX6_image_27, wX6_image_28, uX6_image_28, wX6_image_29, wX6_image_32, wX6_image_35, wX6_image_36, wX6_image_39, wX6_image_40, wX6_image_41, wX6_image_44, wX6_image_45, wX6_image_46, wX6_image_47, wX6_image_50, wX6_image_53, wX6_image_54, wX6_image_55, wX6_image_58, wX6_image_61, wX6_image_62, amSI_1, amSI_2, amSI_3, amSI_s, amU_at, amIsR_ref, amIsR_null, amIsR_rf, amRf_some, amRf_none, amClr_int, amClr_ref, amClr_null, amClr_long, amClr_ra, amClr_rf, amFit_int, amFit_oref, amFit_aref, amFit_onull, amFit_anull, amOptSome, amOptNone, List.cons_append, List.nil_append, true_and, and_true, true_implies, not_true_eq_false, not_false_eq_true, false_implies, and_self, Nat.add_zero, Nat.zero_add, ne_eq, Prod.mk.injEq, amC01_0, amC01_1, amC01_nb, amNb0, amNb1, amTcpI_d, Nat.reduceLeDiff, Nat.reduceAdd, Nat.reduceSub, Nat.reduceEqDiff, Nat.le_refl, amN0le, hR.s, hR.r]
  exact nx
theorem tX6_image_d {t : Nat} {h : amH} {K : Option Value → amH → Prop} : tX6_image [.ref t] h K = ∃ X : XS, t = (124 : Nat) ∧ MdW h X ∧ ∀ h', msFr h h' → MdW h' (imageR X).1 → K (some (.int (imageR X).2)) h' := rfl
def tX6_restore : amT := fun as h K => match as with
  | [.ref t] => ∃ X : XS, t = (124 : Nat) ∧ MdW h X ∧ ∀ h', msFr h h' → MdW h' (restoreR X).1 → K (some (.int (restoreR X).2)) h'
  | _ => False
/-! ReadingStagesModel.restore()I -/
def kX6_restore : Nat → Bool := fun pc => pc == 12 || pc == 38
def rX6_restore : List (Nat × amS) := [(1, 1, 0, 0, amTget 6 5), (19, 1, 0, 0, amTget 6 0), (24, 1, 0, 0, amTget 6 3), (46, 1, 0, 0, amTget 6 1), (51, 1, 0, 0, amTget 6 4), (65, 1, 0, 0, amTget 6 5), (68, 2, 0, 0, amTput 6 2)]
def eX6_restore (ret : Option Value → amH → Nat → Nat → Prop) (F : amX) : Nat → amX := amWp cX6_restore kX6_restore (amLk rX6_restore) (some .int) 0 0 ret F
def sX6_restore (ret : Option Value → amH → Nat → Nat → Prop) (F : amX) : Nat → amX := amWs cX6_restore kX6_restore (amLk rX6_restore) (some .int) 0 0 ret F
theorem wX6_restore_0 {ret F n h} {v0 v1 st} : eX6_restore ret F (n + 1) 0 [v0, v1] (st) h 0 0 = (amIsR v0 ∧ eX6_restore ret F n 1 [v0, v1] (v0 :: st) h 0 0) := (amWp_dec rfl dX6_restore_0 rfl).trans rfl
theorem uX6_restore_0 {ret F n h} {v0 v1 st} : sX6_restore ret F n 0 [v0, v1] (st) h 0 0 = (amIsR v0 ∧ eX6_restore ret F n 1 [v0, v1] (v0 :: st) h 0 0) := (amWs_dec dX6_restore_0 rfl).trans rfl
theorem wX6_restore_1 {ret F n h} {v0 v1 a} : eX6_restore ret F (n + 1) 1 [v0, v1] (.ref a :: []) h 0 0 = (h.1 a = (0, 6) ∧ eX6_restore ret F n 4 [v0, v1] (.int (h.2.1 a 5) :: []) h 0 0) := (amWp_dec rfl dX6_restore_1 rfl).trans (amS4 (Nat.le_of_ble_eq_true rfl) (Nat.le_of_ble_eq_true rfl) (Nat.le_of_ble_eq_true rfl) (Nat.le_of_ble_eq_true rfl))
theorem wX6_restore_4 {ret F n h} {v0 v1 st x} : eX6_restore ret F (n + 1) 4 [v0, v1] (.int x :: st) h 0 0 = ((0 ≤ x → eX6_restore ret F n 10 [v0, v1] (st) h 0 0) ∧ (¬ 0 ≤ x → eX6_restore ret F n 7 [v0, v1] (st) h 0 0)) := (amWp_dec rfl dX6_restore_4 rfl).trans rfl
theorem wX6_restore_7 {ret F n h} {v0 v1 st} : eX6_restore ret F (n + 1) 7 [v0, v1] (st) h 0 0 = (eX6_restore ret F n 9 [v0, v1] (.int (-4) :: st) h 0 0) := (amWp_dec rfl dX6_restore_7 rfl).trans rfl
theorem wX6_restore_9 {ret F n h} {v0 v1 x} : eX6_restore ret F (n + 1) 9 [v0, v1] ([.int x]) h 0 0 = (ret (some (.int x)) h 0 0) := (amWp_dec rfl dX6_restore_9 rfl).trans (amTrue ⟨_, rfl, rfl⟩)
theorem wX6_restore_10 {ret F n h} {v0 v1 st} : eX6_restore ret F (n + 1) 10 [v0, v1] (st) h 0 0 = (eX6_restore ret F n 11 [v0, v1] (.int (nI 0) :: st) h 0 0) := (amWp_dec rfl dX6_restore_10 rfl).trans rfl
theorem wX6_restore_11 {ret F n h} {v0 v1 st x} : eX6_restore ret F (n + 1) 11 [v0, v1] (.int x :: st) h 0 0 = (eX6_restore ret F n 12 [amClr v0, .int x] (st) h 0 0) := (amWp_dec rfl dX6_restore_11 rfl).trans (amTrue (Nat.le_of_ble_eq_true rfl))
theorem wX6_restore_12 {ret F n ls st h k z} : eX6_restore ret F (n + 1) 12 ls st h k z = F 12 ls st h k z := amWp_cut rfl
theorem uX6_restore_12 {ret F n h} {v0 st x} : sX6_restore ret F n 12 [v0, .int x] (st) h 0 0 = (eX6_restore ret F n 13 [v0, .int x] (.int x :: st) h 0 0) := (amWs_dec dX6_restore_12 rfl).trans rfl
theorem wX6_restore_13 {ret F n h} {v0 v1 st} : eX6_restore ret F (n + 1) 13 [v0, v1] (st) h 0 0 = (eX6_restore ret F n 15 [v0, v1] (.int (nI 27) :: st) h 0 0) := (amWp_dec rfl dX6_restore_13 rfl).trans rfl
theorem wX6_restore_15 {ret F n h} {v0 v1 st y x} : eX6_restore ret F (n + 1) 15 [v0, v1] (.int y :: .int x :: st) h 0 0 = ((y ≤ x → eX6_restore ret F n 36 [v0, v1] (st) h 0 0) ∧ (¬ y ≤ x → eX6_restore ret F n 18 [v0, v1] (st) h 0 0)) := (amWp_dec rfl dX6_restore_15 rfl).trans rfl
theorem wX6_restore_18 {ret F n h} {v0 v1 st} : eX6_restore ret F (n + 1) 18 [v0, v1] (st) h 0 0 = (amIsR v0 ∧ eX6_restore ret F n 19 [v0, v1] (v0 :: st) h 0 0) := (amWp_dec rfl dX6_restore_18 rfl).trans rfl
theorem wX6_restore_19 {ret F n h} {v0 v1 a} : eX6_restore ret F (n + 1) 19 [v0, v1] (.ref a :: []) h 0 0 = (h.1 a = (0, 6) ∧ eX6_restore ret F n 22 [v0, v1] (va_rf (h.2.2.2.1 a 0) :: []) h 0 0) := (amWp_dec rfl dX6_restore_19 rfl).trans (amS4 (Nat.le_of_ble_eq_true rfl) (Nat.le_of_ble_eq_true rfl) (Nat.le_of_ble_eq_true rfl) (Nat.le_of_ble_eq_true rfl))
theorem wX6_restore_22 {ret F n h} {v0 st x} : eX6_restore ret F (n + 1) 22 [v0, .int x] (st) h 0 0 = (eX6_restore ret F n 23 [v0, .int x] (.int x :: st) h 0 0) := (amWp_dec rfl dX6_restore_22 rfl).trans rfl
theorem wX6_restore_23 {ret F n h} {v0 v1 st} : eX6_restore ret F (n + 1) 23 [v0, v1] (st) h 0 0 = (amIsR v0 ∧ eX6_restore ret F n 24 [v0, v1] (v0 :: st) h 0 0) := (amWp_dec rfl dX6_restore_23 rfl).trans rfl
theorem wX6_restore_24 {ret F n h} {v0 v1 r0 r1 a} : eX6_restore ret F (n + 1) 24 [v0, v1] (.ref a :: r0 :: r1 :: []) h 0 0 = (h.1 a = (0, 6) ∧ eX6_restore ret F n 27 [v0, v1] (va_rf (h.2.2.2.1 a 3) :: r0 :: r1 :: []) h 0 0) := (amWp_dec rfl dX6_restore_24 rfl).trans (amS4 (Nat.le_of_ble_eq_true rfl) (Nat.le_of_ble_eq_true rfl) (Nat.le_of_ble_eq_true rfl) (Nat.le_of_ble_eq_true rfl))
theorem wX6_restore_27 {ret F n h} {v0 st x} : eX6_restore ret F (n + 1) 27 [v0, .int x] (st) h 0 0 = (eX6_restore ret F n 28 [v0, .int x] (.int x :: st) h 0 0) := (amWp_dec rfl dX6_restore_27 rfl).trans rfl
theorem wX6_restore_28 {ret F n h} {v0 v1 st x a} : eX6_restore ret F (n + 1) 28 [v0, v1] (.int x :: .ref a :: st) h 0 0 = ((h.1 a).1 = 1 ∧ vp_in x (h.1 a).2 ∧ eX6_restore ret F n 29 [v0, v1] (.int (h.2.1 a x.toNatClampNeg) :: st) h 0 0) := (amWp_dec rfl dX6_restore_28 rfl).trans rfl
theorem wX6_restore_29 {ret F n h} {v0 v1 st y x a} : eX6_restore ret F (n + 1) 29 [v0, v1] (.int y :: .int x :: .ref a :: st) h 0 0 = ((h.1 a).1 = 1 ∧ vp_in x (h.1 a).2 ∧ amN0 ≤ a ∧ eX6_restore ret F n 30 [v0, v1] (st) (amSI h (amU h.2.1 a x.toNatClampNeg y)) 0 0) := (amWp_dec rfl dX6_restore_29 rfl).trans rfl
theorem wX6_restore_30 {ret F n h} {v0 st x} : eX6_restore ret F (n + 1) 30 [v0, .int x] (st) h 0 0 = (eX6_restore ret F n 33 [amClr v0, .int (x + nI 1)] (st) h 0 0) := (amWp_dec rfl dX6_restore_30 rfl).trans rfl
theorem wX6_restore_33 {ret F n h} {v0 v1 st} : eX6_restore ret F (n + 1) 33 [v0, v1] (st) h 0 0 = (eX6_restore ret F n 12 [v0, v1] (st) h 0 0) := (amWp_dec rfl dX6_restore_33 rfl).trans rfl
theorem wX6_restore_36 {ret F n h} {v0 v1 st} : eX6_restore ret F (n + 1) 36 [v0, v1] (st) h 0 0 = (eX6_restore ret F n 37 [v0, v1] (.int (nI 0) :: st) h 0 0) := (amWp_dec rfl dX6_restore_36 rfl).trans rfl
theorem wX6_restore_37 {ret F n h} {v0 v1 st x} : eX6_restore ret F (n + 1) 37 [v0, v1] (.int x :: st) h 0 0 = (eX6_restore ret F n 38 [amClr v0, .int x] (st) h 0 0) := (amWp_dec rfl dX6_restore_37 rfl).trans (amTrue (Nat.le_of_ble_eq_true rfl))
theorem wX6_restore_38 {ret F n ls st h k z} : eX6_restore ret F (n + 1) 38 ls st h k z = F 38 ls st h k z := amWp_cut rfl
theorem uX6_restore_38 {ret F n h} {v0 st x} : sX6_restore ret F n 38 [v0, .int x] (st) h 0 0 = (eX6_restore ret F n 39 [v0, .int x] (.int x :: st) h 0 0) := (amWs_dec dX6_restore_38 rfl).trans rfl
theorem wX6_restore_39 {ret F n h} {v0 v1 st} : eX6_restore ret F (n + 1) 39 [v0, v1] (st) h 0 0 = (eX6_restore ret F n 42 [v0, v1] (.int (nI 162) :: st) h 0 0) := (amWp_dec rfl dX6_restore_39 rfl).trans rfl
theorem wX6_restore_42 {ret F n h} {v0 v1 st y x} : eX6_restore ret F (n + 1) 42 [v0, v1] (.int y :: .int x :: st) h 0 0 = ((y ≤ x → eX6_restore ret F n 63 [v0, v1] (st) h 0 0) ∧ (¬ y ≤ x → eX6_restore ret F n 45 [v0, v1] (st) h 0 0)) := (amWp_dec rfl dX6_restore_42 rfl).trans rfl
theorem wX6_restore_45 {ret F n h} {v0 v1 st} : eX6_restore ret F (n + 1) 45 [v0, v1] (st) h 0 0 = (amIsR v0 ∧ eX6_restore ret F n 46 [v0, v1] (v0 :: st) h 0 0) := (amWp_dec rfl dX6_restore_45 rfl).trans rfl
theorem wX6_restore_46 {ret F n h} {v0 v1 a} : eX6_restore ret F (n + 1) 46 [v0, v1] (.ref a :: []) h 0 0 = (h.1 a = (0, 6) ∧ eX6_restore ret F n 49 [v0, v1] (va_rf (h.2.2.2.1 a 1) :: []) h 0 0) := (amWp_dec rfl dX6_restore_46 rfl).trans (amS4 (Nat.le_of_ble_eq_true rfl) (Nat.le_of_ble_eq_true rfl) (Nat.le_of_ble_eq_true rfl) (Nat.le_of_ble_eq_true rfl))
theorem wX6_restore_49 {ret F n h} {v0 st x} : eX6_restore ret F (n + 1) 49 [v0, .int x] (st) h 0 0 = (eX6_restore ret F n 50 [v0, .int x] (.int x :: st) h 0 0) := (amWp_dec rfl dX6_restore_49 rfl).trans rfl
theorem wX6_restore_50 {ret F n h} {v0 v1 st} : eX6_restore ret F (n + 1) 50 [v0, v1] (st) h 0 0 = (amIsR v0 ∧ eX6_restore ret F n 51 [v0, v1] (v0 :: st) h 0 0) := (amWp_dec rfl dX6_restore_50 rfl).trans rfl
theorem wX6_restore_51 {ret F n h} {v0 v1 r0 r1 a} : eX6_restore ret F (n + 1) 51 [v0, v1] (.ref a :: r0 :: r1 :: []) h 0 0 = (h.1 a = (0, 6) ∧ eX6_restore ret F n 54 [v0, v1] (va_rf (h.2.2.2.1 a 4) :: r0 :: r1 :: []) h 0 0) := (amWp_dec rfl dX6_restore_51 rfl).trans (amS4 (Nat.le_of_ble_eq_true rfl) (Nat.le_of_ble_eq_true rfl) (Nat.le_of_ble_eq_true rfl) (Nat.le_of_ble_eq_true rfl))
theorem wX6_restore_54 {ret F n h} {v0 st x} : eX6_restore ret F (n + 1) 54 [v0, .int x] (st) h 0 0 = (eX6_restore ret F n 55 [v0, .int x] (.int x :: st) h 0 0) := (amWp_dec rfl dX6_restore_54 rfl).trans rfl
theorem wX6_restore_55 {ret F n h} {v0 v1 st x a} : eX6_restore ret F (n + 1) 55 [v0, v1] (.int x :: .ref a :: st) h 0 0 = ((h.1 a).1 = 1 ∧ vp_in x (h.1 a).2 ∧ eX6_restore ret F n 56 [v0, v1] (.int (h.2.1 a x.toNatClampNeg) :: st) h 0 0) := (amWp_dec rfl dX6_restore_55 rfl).trans rfl
theorem wX6_restore_56 {ret F n h} {v0 v1 st y x a} : eX6_restore ret F (n + 1) 56 [v0, v1] (.int y :: .int x :: .ref a :: st) h 0 0 = ((h.1 a).1 = 1 ∧ vp_in x (h.1 a).2 ∧ amN0 ≤ a ∧ eX6_restore ret F n 57 [v0, v1] (st) (amSI h (amU h.2.1 a x.toNatClampNeg y)) 0 0) := (amWp_dec rfl dX6_restore_56 rfl).trans rfl
theorem wX6_restore_57 {ret F n h} {v0 st x} : eX6_restore ret F (n + 1) 57 [v0, .int x] (st) h 0 0 = (eX6_restore ret F n 60 [amClr v0, .int (x + nI 1)] (st) h 0 0) := (amWp_dec rfl dX6_restore_57 rfl).trans rfl
theorem wX6_restore_60 {ret F n h} {v0 v1 st} : eX6_restore ret F (n + 1) 60 [v0, v1] (st) h 0 0 = (eX6_restore ret F n 38 [v0, v1] (st) h 0 0) := (amWp_dec rfl dX6_restore_60 rfl).trans rfl
theorem wX6_restore_63 {ret F n h} {v0 v1 st} : eX6_restore ret F (n + 1) 63 [v0, v1] (st) h 0 0 = (amIsR v0 ∧ eX6_restore ret F n 64 [v0, v1] (v0 :: st) h 0 0) := (amWp_dec rfl dX6_restore_63 rfl).trans rfl
theorem wX6_restore_64 {ret F n h} {v0 v1 st} : eX6_restore ret F (n + 1) 64 [v0, v1] (st) h 0 0 = (amIsR v0 ∧ eX6_restore ret F n 65 [v0, v1] (v0 :: st) h 0 0) := (amWp_dec rfl dX6_restore_64 rfl).trans rfl
theorem wX6_restore_65 {ret F n h} {v0 v1 r0 a} : eX6_restore ret F (n + 1) 65 [v0, v1] (.ref a :: r0 :: []) h 0 0 = (h.1 a = (0, 6) ∧ eX6_restore ret F n 68 [v0, v1] (.int (h.2.1 a 5) :: r0 :: []) h 0 0) := (amWp_dec rfl dX6_restore_65 rfl).trans (amS4 (Nat.le_of_ble_eq_true rfl) (Nat.le_of_ble_eq_true rfl) (Nat.le_of_ble_eq_true rfl) (Nat.le_of_ble_eq_true rfl))
theorem wX6_restore_68 {ret F n h} {v0 v1 x a} : eX6_restore ret F (n + 1) 68 [v0, v1] (.int x :: .ref a :: []) h 0 0 = (h.1 a = (0, 6) ∧ amN0 ≤ a ∧ amFit .int (.int x) ∧ eX6_restore ret F n 71 [v0, v1] ([]) (amSI h (amU h.2.1 a 2 x)) 0 0) := (amWp_dec rfl dX6_restore_68 rfl).trans (amS4 (Nat.le_of_ble_eq_true rfl) (Nat.le_of_ble_eq_true rfl) (Nat.le_of_ble_eq_true rfl) (Nat.le_of_ble_eq_true rfl))
theorem wX6_restore_71 {ret F n h} {v0 v1 st} : eX6_restore ret F (n + 1) 71 [v0, v1] (st) h 0 0 = (eX6_restore ret F n 72 [v0, v1] (.int (nI 1) :: st) h 0 0) := (amWp_dec rfl dX6_restore_71 rfl).trans rfl
theorem wX6_restore_72 {ret F n h} {v0 v1 x} : eX6_restore ret F (n + 1) 72 [v0, v1] ([.int x]) h 0 0 = (ret (some (.int x)) h 0 0) := (amWp_dec rfl dX6_restore_72 rfl).trans (amTrue ⟨_, rfl, rfl⟩)
theorem evX6_restore (l : Launch) (G : amG) : ∀ pc S i sz, amLk rX6_restore pc = some S → decode cX6_restore pc = .ok (i, sz) → amSiteP pc G l yX6_restore.cls yX6_restore.name yX6_restore.desc (amRm 1 0 0) i sz S.1 S.2.1 S.2.2.1 S.2.2.2 := amLk_ok (by
  refine List.forall_mem_cons.mpr ⟨⟨_, _, dX6_restore_1, amSite.P (amSiteGet ⟨_, rfl, by decide, Or.inl q1300⟩)⟩, ?_⟩
  refine List.forall_mem_cons.mpr ⟨⟨_, _, dX6_restore_19, amSite.P (amSiteGet ⟨_, rfl, by decide, Or.inl q1295⟩)⟩, ?_⟩
  refine List.forall_mem_cons.mpr ⟨⟨_, _, dX6_restore_24, amSite.P (amSiteGet ⟨_, rfl, by decide, Or.inl q1298⟩)⟩, ?_⟩
  refine List.forall_mem_cons.mpr ⟨⟨_, _, dX6_restore_46, amSite.P (amSiteGet ⟨_, rfl, by decide, Or.inl q1296⟩)⟩, ?_⟩
  refine List.forall_mem_cons.mpr ⟨⟨_, _, dX6_restore_51, amSite.P (amSiteGet ⟨_, rfl, by decide, Or.inl q1299⟩)⟩, ?_⟩
  refine List.forall_mem_cons.mpr ⟨⟨_, _, dX6_restore_65, amSite.P (amSiteGet ⟨_, rfl, by decide, Or.inl q1300⟩)⟩, ?_⟩
  refine List.forall_mem_cons.mpr ⟨⟨_, _, dX6_restore_68, amSite.P (amSitePut ⟨_, rfl, by decide, Or.inl q1297⟩ (fun q h => by cases h; rfl))⟩, ?_⟩
  exact fun _ h => absurd h List.not_mem_nil)
theorem goX6_restore {ret F} (hF : amCld cX6_restore kX6_restore (amLk rX6_restore) (some .int) 0 0 ret F) (n : Nat) {pc ls st h k z} (q : sX6_restore ret F n pc ls st h k z) : F pc ls st h k z := hF.1 n pc ls st h k z q
theorem metX6_restore (l : Launch) (G : amG) : amMet l G yX6_restore (ws_ yX6_restore cX6_restore 2 (some .int)) 1 0 0 tX6_restore := by
  refine amMet_of (cut := kX6_restore) (by decide +kernel) (evX6_restore l G) ?_
  intro as h K hT
  match as, hT with
  | [.ref t], ⟨X, e1, w, hK⟩ =>
  refine ⟨Nat.le_of_ble_eq_true rfl, fun F hF => ?_⟩
  show F 0 [.ref t, .retAddr 0] [] h 0 0
  obtain ⟨t, rfl⟩ : ∃ i : Nat, i = t := ⟨_, rfl⟩
  subst e1
  have hR := w.1
  have hI := w.2.2.2.1
  cases hk : X.2.2.1 with
  | none =>
    rw [hk] at hI
    have hI : h.2.1 124 5 = -1 := hI
    have e : restoreR X = (X, -4) := by unfold restoreR; rw [hk]
    rw [e] at hK
    have key := hK h (msFr.rf h) w
    have n1 : ((0 : Int32) ≤ -1) = False := eq_false (by decide)
    refine goX6_restore hF 40 ?_
    simp (disch := omega) only [wX6_restore_0, uX6_restore_0, wX6_restore_1, wX6_restore_4, wX6_restore_7, wX6_restore_9, wX6_restore_10, wX6_restore_11, wX6_restore_12, uX6_restore_12, wX6_restore_13, wX6_restore_15, wX6_restore_18, wX6_restore_19, wX6_restore_22, wX6_restore_23, wX6_restore_24, wX6_restore_27, wX6_restore_28, wX6_restore_29, wX6_restore_30, wX6_restore_33, wX6_restore_36, wX6_restore_37, wX6_restore_38, uX6_restore_38, wX6_restore_39, wX6_restore_42, wX6_restore_45, wX6_restore_46, wX6_restore_49, wX6_restore_50, wX6_restore_51, wX6_restore_54, wX6_restore_55, wX6_restore_56, wX6_restore_57, wX6_restore_60, wX6_restore_63, wX6_restore_64, wX6_restore_65, wX6_restore_68, wX6_restore_71, wX6_restore_72, amSI_1, amSI_2, amSI_3, amSI_s, amU_at, amIsR_ref, amIsR_null, amIsR_rf, amRf_some, amRf_none, amClr_int, amClr_ref, amClr_null, amClr_long, amClr_ra, amClr_rf, amFit_int, amFit_oref, amFit_aref, amFit_onull, amFit_anull, amOptSome, amOptNone, List.cons_append, List.nil_append, true_and, and_true, true_implies, not_true_eq_false, not_false_eq_true, false_implies, and_self, Nat.add_zero, Nat.zero_add, ne_eq, Prod.mk.injEq, amC01_0, amC01_1, amC01_nb, amNb0, amNb1, amTcpI_d, Nat.reduceLeDiff, Nat.reduceAdd, Nat.reduceSub, Nat.reduceEqDiff, Nat.le_refl, amN0le, hR.s, hR.r, hI, n1]
    exact amRet.of (by decide) (by decide) key
  | some v =>
    obtain ⟨S, U⟩ := v
    rw [hk] at hI
    obtain ⟨u6, un, is, iu⟩ := hI
    have e : restoreR X = ((S, U, X.2.2), nI 1) := by unfold restoreR; rw [hk]
    rw [e] at hK
    have loop2 : ∀ t p m, p + t = 162 → (∀ v : Nat, v < 27 → m 125 v = h.2.1 127 v) → (∀ v : Nat, v < p → m 126 v = h.2.1 128 v) → (∀ i : Nat, i ≠ 125 → i ≠ 126 → m i = h.2.1 i) → F 38 [.ref 124, .int (nI p)] [] (amSI h m) 0 0 := by
      intro t
      induction t with
      | zero =>
        intro p m e i1 i2 i3
        have e : p = 162 := by omega
        subst e
        have m5 : m 124 5 = nI U.length := by rw [i3 124 (by decide) (by decide)]; exact un
        obtain ⟨g1, g2⟩ := w.of (m := amU m 124 2 (nI U.length)) (S' := S) (U' := U) (is.copy (fun k hk => by
          simp (disch := omega) only [amU_at, amU_ne, amU_nj, amU_neR, up_ne, up_at, amSI_2]
          rw [Nat.zero_add]
          exact i1 k hk)) ⟨u6, by simp (disch := omega) only [amU_at, amU_ne, amU_nj, amU_neR, up_ne, up_at, amSI_2], fun k hk => (iu k hk).copy (fun j hj => by
          simp (disch := omega) only [amU_at, amU_ne, amU_nj, amU_neR, up_ne, up_at, amSI_2]
          exact i2 _ (by omega))⟩ (fun i a1 a2 a3 _ _ => by
          simp (disch := omega) only [amU_at, amU_ne, amU_nj, amU_neR, up_ne, up_at, amSI_2]
          exact i3 i a2 a3) (by
          simp (disch := omega) only [amU_at, amU_ne, amU_nj, amU_neR, up_ne, up_at, amSI_2]
          rw [i3 124 (by decide) (by decide)]) (by
          simp (disch := omega) only [amU_at, amU_ne, amU_nj, amU_neR, up_ne, up_at, amSI_2]
          rw [i3 124 (by decide) (by decide)])
        have key := hK _ g1 g2
        refine goX6_restore hF 40 ?_
        simp (disch := omega) only [wX6_restore_0, uX6_restore_0, wX6_restore_1, wX6_restore_4, wX6_restore_7, wX6_restore_9, wX6_restore_10, wX6_restore_11, wX6_restore_12, uX6_restore_12, wX6_restore_13, wX6_restore_15, wX6_restore_18, wX6_restore_19, wX6_restore_22, wX6_restore_23, wX6_restore_24, wX6_restore_27, wX6_restore_28, wX6_restore_29, wX6_restore_30, wX6_restore_33, wX6_restore_36, wX6_restore_37, wX6_restore_38, uX6_restore_38, wX6_restore_39, wX6_restore_42, wX6_restore_45, wX6_restore_46, wX6_restore_49, wX6_restore_50, wX6_restore_51, wX6_restore_54, wX6_restore_55, wX6_restore_56, wX6_restore_57, wX6_restore_60, wX6_restore_63, wX6_restore_64, wX6_restore_65, wX6_restore_68, wX6_restore_71, wX6_restore_72, amSI_1, amSI_2, amSI_3, amSI_s, amU_at, amIsR_ref, amIsR_null, amIsR_rf, amRf_some, amRf_none, amClr_int, amClr_ref, amClr_null, amClr_long, amClr_ra, amClr_rf, amFit_int, amFit_oref, amFit_aref, amFit_onull, amFit_anull, amOptSome, amOptNone, List.cons_append, List.nil_append, true_and, and_true, true_implies, not_true_eq_false, not_false_eq_true, false_implies, and_self, Nat.add_zero, Nat.zero_add, ne_eq, Prod.mk.injEq, amC01_0, amC01_1, amC01_nb, amNb0, amNb1, amTcpI_d, Nat.reduceLeDiff, Nat.reduceAdd, Nat.reduceSub, Nat.reduceEqDiff, Nat.le_refl, amN0le, hR.s, hR.r, amLeI, amLtI, amEqI, amLe0, amGt0, amEq0, amNotPosI, amGe0, amVI, amCl_nI, amAdd, amSub, amMul, m5]
        exact amRet.of (by decide) (by decide) key
      | succ t ih =>
        intro p m e i1 i2 i3
        have q : (162 ≤ p) = False := eq_false (by omega)
        have nx := ih (p + 1) (amU m 126 p (m 128 p)) (by omega) (fun v hv => by
          simp (disch := omega) only [amU_at, amU_ne, amU_nj, amU_neR, up_ne, up_at, amSI_2]
          exact i1 v hv) (fun v hv => by
          by_cases y : v = p
          · subst y
            simp (disch := omega) only [amU_at, amU_ne, amU_nj, amU_neR, up_ne, up_at, amSI_2]
            rw [i3 128 (by decide) (by decide)]
          · simp (disch := omega) only [amU_at, amU_ne, amU_nj, amU_neR, up_ne, up_at, amSI_2]
            exact i2 v (by omega)) (fun i a1 a2 => by
          simp (disch := omega) only [amU_at, amU_ne, amU_nj, amU_neR, up_ne, up_at, amSI_2]
          exact i3 i a1 a2)
        refine goX6_restore hF 40 ?_
        simp (disch := omega) only [wX6_restore_0, uX6_restore_0, wX6_restore_1, wX6_restore_4, wX6_restore_7, wX6_restore_9, wX6_restore_10, wX6_restore_11, wX6_restore_12, uX6_restore_12, wX6_restore_13, wX6_restore_15, wX6_restore_18, wX6_restore_19, wX6_restore_22, wX6_restore_23, wX6_restore_24, wX6_restore_27, wX6_restore_28, wX6_restore_29, wX6_restore_30, wX6_restore_33, wX6_restore_36, wX6_restore_37, wX6_restore_38, uX6_restore_38, wX6_restore_39, wX6_restore_42, wX6_restore_45, wX6_restore_46, wX6_restore_49, wX6_restore_50, wX6_restore_51, wX6_restore_54, wX6_restore_55, wX6_restore_56, wX6_restore_57, wX6_restore_60, wX6_restore_63, wX6_restore_64, wX6_restore_65, wX6_restore_68, wX6_restore_71, wX6_restore_72, amSI_1, amSI_2, amSI_3, amSI_s, amU_at, amIsR_ref, amIsR_null, amIsR_rf, amRf_some, amRf_none, amClr_int, amClr_ref, amClr_null, amClr_long, amClr_ra, amClr_rf, amFit_int, amFit_oref, amFit_aref, amFit_onull, amFit_anull, amOptSome, amOptNone, List.cons_append, List.nil_append, true_and, and_true, true_implies, not_true_eq_false, not_false_eq_true, false_implies, and_self, Nat.add_zero, Nat.zero_add, ne_eq, Prod.mk.injEq, amC01_0, amC01_1, amC01_nb, amNb0, amNb1, amTcpI_d, Nat.reduceLeDiff, Nat.reduceAdd, Nat.reduceSub, Nat.reduceEqDiff, Nat.le_refl, amN0le, hR.s, hR.r, amLeI, amLtI, amEqI, amLe0, amGt0, amEq0, amNotPosI, amGe0, amVI, amCl_nI, amAdd, amSub, amMul, q]
        exact nx
    have loop1 : ∀ t p m, p + t = 27 → (∀ v : Nat, v < p → m 125 v = h.2.1 127 v) → (∀ i : Nat, i ≠ 125 → m i = h.2.1 i) → F 12 [.ref 124, .int (nI p)] [] (amSI h m) 0 0 := by
      intro t
      induction t with
      | zero =>
        intro p m e i1 i2
        have e : p = 27 := by omega
        subst e
        have nx := loop2 162 0 m (by omega) i1 (fun v hv => absurd hv (Nat.not_lt_zero v)) (fun i a1 _ => i2 i a1)
        refine goX6_restore hF 40 ?_
        simp (disch := omega) only [wX6_restore_0, uX6_restore_0, wX6_restore_1, wX6_restore_4, wX6_restore_7, wX6_restore_9, wX6_restore_10, wX6_restore_11, wX6_restore_12, uX6_restore_12, wX6_restore_13, wX6_restore_15, wX6_restore_18, wX6_restore_19, wX6_restore_22, wX6_restore_23, wX6_restore_24, wX6_restore_27, wX6_restore_28, wX6_restore_29, wX6_restore_30, wX6_restore_33, wX6_restore_36, wX6_restore_37, wX6_restore_38, uX6_restore_38, wX6_restore_39, wX6_restore_42, wX6_restore_45, wX6_restore_46, wX6_restore_49, wX6_restore_50, wX6_restore_51, wX6_restore_54, wX6_restore_55, wX6_restore_56, wX6_restore_57, wX6_restore_60, wX6_restore_63, wX6_restore_64, wX6_restore_65, wX6_restore_68, wX6_restore_71, wX6_restore_72, amSI_1, amSI_2, amSI_3, amSI_s, amU_at, amIsR_ref, amIsR_null, amIsR_rf, amRf_some, amRf_none, amClr_int, amClr_ref, amClr_null, amClr_long, amClr_ra, amClr_rf, amFit_int, amFit_oref, amFit_aref, amFit_onull, amFit_anull, amOptSome, amOptNone, List.cons_append, List.nil_append, true_and, and_true, true_implies, not_true_eq_false, not_false_eq_true, false_implies, and_self, Nat.add_zero, Nat.zero_add, ne_eq, Prod.mk.injEq, amC01_0, amC01_1, amC01_nb, amNb0, amNb1, amTcpI_d, Nat.reduceLeDiff, Nat.reduceAdd, Nat.reduceSub, Nat.reduceEqDiff, Nat.le_refl, amN0le, hR.s, hR.r, amLeI, amLtI, amEqI, amLe0, amGt0, amEq0, amNotPosI, amGe0, amVI, amCl_nI, amAdd, amSub, amMul]
        exact nx
      | succ t ih =>
        intro p m e i1 i2
        have q : (27 ≤ p) = False := eq_false (by omega)
        have nx := ih (p + 1) (amU m 125 p (m 127 p)) (by omega) (fun v hv => by
          by_cases y : v = p
          · subst y
            simp (disch := omega) only [amU_at, amU_ne, amU_nj, amU_neR, up_ne, up_at, amSI_2]
            rw [i2 127 (by decide)]
          · simp (disch := omega) only [amU_at, amU_ne, amU_nj, amU_neR, up_ne, up_at, amSI_2]
            exact i1 v (by omega)) (fun i a1 => by
          simp (disch := omega) only [amU_at, amU_ne, amU_nj, amU_neR, up_ne, up_at, amSI_2]
          exact i2 i a1)
        refine goX6_restore hF 40 ?_
        simp (disch := omega) only [wX6_restore_0, uX6_restore_0, wX6_restore_1, wX6_restore_4, wX6_restore_7, wX6_restore_9, wX6_restore_10, wX6_restore_11, wX6_restore_12, uX6_restore_12, wX6_restore_13, wX6_restore_15, wX6_restore_18, wX6_restore_19, wX6_restore_22, wX6_restore_23, wX6_restore_24, wX6_restore_27, wX6_restore_28, wX6_restore_29, wX6_restore_30, wX6_restore_33, wX6_restore_36, wX6_restore_37, wX6_restore_38, uX6_restore_38, wX6_restore_39, wX6_restore_42, wX6_restore_45, wX6_restore_46, wX6_restore_49, wX6_restore_50, wX6_restore_51, wX6_restore_54, wX6_restore_55, wX6_restore_56, wX6_restore_57, wX6_restore_60, wX6_restore_63, wX6_restore_64, wX6_restore_65, wX6_restore_68, wX6_restore_71, wX6_restore_72, amSI_1, amSI_2, amSI_3, amSI_s, amU_at, amIsR_ref, amIsR_null, amIsR_rf, amRf_some, amRf_none, amClr_int, amClr_ref, amClr_null, amClr_long, amClr_ra, amClr_rf, amFit_int, amFit_oref, amFit_aref, amFit_onull, amFit_anull, amOptSome, amOptNone, List.cons_append, List.nil_append, true_and, and_true, true_implies, not_true_eq_false, not_false_eq_true, false_implies, and_self, Nat.add_zero, Nat.zero_add, ne_eq, Prod.mk.injEq, amC01_0, amC01_1, amC01_nb, amNb0, amNb1, amTcpI_d, Nat.reduceLeDiff, Nat.reduceAdd, Nat.reduceSub, Nat.reduceEqDiff, Nat.le_refl, amN0le, hR.s, hR.r, amLeI, amLtI, amEqI, amLe0, amGt0, amEq0, amNotPosI, amGe0, amVI, amCl_nI, amAdd, amSub, amMul, q]
        exact nx
    have nx := loop1 27 0 h.2.1 (by omega) (fun v hv => absurd hv (Nat.not_lt_zero v)) (fun _ _ => rfl)
    have h5 : (0 ≤ nI U.length) = True := eq_true (by rw [← Int32.not_lt]; exact nI_pos (by omega))
    refine goX6_restore hF 40 ?_
    simp (disch := omega) only [wX6_restore_0, uX6_restore_0, wX6_restore_1, wX6_restore_4, wX6_restore_7, wX6_restore_9, wX6_restore_10, wX6_restore_11, wX6_restore_12, uX6_restore_12, wX6_restore_13, wX6_restore_15, wX6_restore_18, wX6_restore_19, wX6_restore_22, wX6_restore_23, wX6_restore_24, wX6_restore_27, wX6_restore_28, wX6_restore_29, wX6_restore_30, wX6_restore_33, wX6_restore_36, wX6_restore_37, wX6_restore_38, uX6_restore_38, wX6_restore_39, wX6_restore_42, wX6_restore_45, wX6_restore_46, wX6_restore_49, wX6_restore_50, wX6_restore_51, wX6_restore_54, wX6_restore_55, wX6_restore_56, wX6_restore_57, wX6_restore_60, wX6_restore_63, wX6_restore_64, wX6_restore_65, wX6_restore_68, wX6_restore_71, wX6_restore_72, amSI_1, amSI_2, amSI_3, amSI_s, amU_at, amIsR_ref, amIsR_null, amIsR_rf, amRf_some, amRf_none, amClr_int, amClr_ref, amClr_null, amClr_long, amClr_ra, amClr_rf, amFit_int, amFit_oref, amFit_aref, amFit_onull, amFit_anull, amOptSome, amOptNone, List.cons_append, List.nil_append, true_and, and_true, true_implies, not_true_eq_false, not_false_eq_true, false_implies, and_self, Nat.add_zero, Nat.zero_add, ne_eq, Prod.mk.injEq, amC01_0, amC01_1, amC01_nb, amNb0, amNb1, amTcpI_d, Nat.reduceLeDiff, Nat.reduceAdd, Nat.reduceSub, Nat.reduceEqDiff, Nat.le_refl, amN0le, hR.s, hR.r, un, h5]
    exact nx
theorem tX6_restore_d {t : Nat} {h : amH} {K : Option Value → amH → Prop} : tX6_restore [.ref t] h K = ∃ X : XS, t = (124 : Nat) ∧ MdW h X ∧ ∀ h', msFr h h' → MdW h' (restoreR X).1 → K (some (.int (restoreR X).2)) h' := rfl
def tX6_type : amT := fun as h K => match as with
  | [.ref t, .int x] => ∃ X : XS, t = (124 : Nat) ∧ MdW h X ∧ ∀ h', msFr h h' → MdW h' (typeR X x).1 → K (some (.int (typeR X x).2)) h'
  | _ => False
/-! ReadingStagesModel.type(I)I -/
def kX6_type : Nat → Bool := fun pc => false
def rX6_type : List (Nat × amS) := [(2, 0, 0, 0, amTcon (.long (32))), (5, 0, 0, 0, amTcon (.long (126))), (8, 3, 0, 0, tX6_in), (17, 1, 0, 0, amTget 6 7), (29, 1, 0, 0, amTget 6 6), (33, 1, 0, 0, amTget 6 7), (40, 1, 0, 0, amTget 6 7), (45, 2, 0, 0, amTput 6 7), (49, 1, 0, 0, amTget 6 7)]
def eX6_type (ret : Option Value → amH → Nat → Nat → Prop) (F : amX) : Nat → amX := amWp cX6_type kX6_type (amLk rX6_type) (some .int) 0 0 ret F
def sX6_type (ret : Option Value → amH → Nat → Nat → Prop) (F : amX) : Nat → amX := amWs cX6_type kX6_type (amLk rX6_type) (some .int) 0 0 ret F
theorem wX6_type_0 {ret F n h} {v0 st x} : eX6_type ret F (n + 1) 0 [v0, .int x] (st) h 0 0 = (eX6_type ret F n 1 [v0, .int x] (.int x :: st) h 0 0) := (amWp_dec rfl dX6_type_0 rfl).trans rfl
theorem uX6_type_0 {ret F n h} {v0 st x} : sX6_type ret F n 0 [v0, .int x] (st) h 0 0 = (eX6_type ret F n 1 [v0, .int x] (.int x :: st) h 0 0) := (amWs_dec dX6_type_0 rfl).trans rfl
theorem wX6_type_1 {ret F n h} {v0 v1 st x} : eX6_type ret F (n + 1) 1 [v0, v1] (.int x :: st) h 0 0 = (eX6_type ret F n 2 [v0, v1] (.long x.toInt64 :: st) h 0 0) := (amWp_dec rfl dX6_type_1 rfl).trans rfl
theorem wX6_type_2 {ret F n h} {v0 v1 r0} : eX6_type ret F (n + 1) 2 [v0, v1] (r0 :: []) h 0 0 = (eX6_type ret F n 5 [v0, v1] (.long (lN 32) :: r0 :: []) h 0 0) := (amWp_dec rfl dX6_type_2 rfl).trans (amS4 (Nat.le_of_ble_eq_true rfl) (Nat.le_of_ble_eq_true rfl) (Nat.le_of_ble_eq_true rfl) (Nat.le_of_ble_eq_true rfl))
theorem wX6_type_5 {ret F n h} {v0 v1 r0 r1} : eX6_type ret F (n + 1) 5 [v0, v1] (r0 :: r1 :: []) h 0 0 = (eX6_type ret F n 8 [v0, v1] (.long (lN 126) :: r0 :: r1 :: []) h 0 0) := (amWp_dec rfl dX6_type_5 rfl).trans (amS4 (Nat.le_of_ble_eq_true rfl) (Nat.le_of_ble_eq_true rfl) (Nat.le_of_ble_eq_true rfl) (Nat.le_of_ble_eq_true rfl))
theorem wX6_type_8 {ret F n h} {v0 v1 x2 x1 x0} : eX6_type ret F (n + 1) 8 [v0, v1] (.long x2 :: .long x1 :: .long x0 :: []) h 0 0 = (tX6_in [.long x0, .long x1, .long x2] h (fun v h => eX6_type ret F n 11 [v0, v1] (v.toList ++ ([])) h 0 0)) := (amWp_dec rfl dX6_type_8 rfl).trans (amS4 (Nat.le_of_ble_eq_true rfl) (Nat.le_of_ble_eq_true rfl) (Nat.le_of_ble_eq_true rfl) (Nat.le_of_ble_eq_true rfl))
theorem wX6_type_11 {ret F n h} {v0 v1 st x} : eX6_type ret F (n + 1) 11 [v0, v1] (.int x :: st) h 0 0 = ((¬ x = 0 → eX6_type ret F n 16 [v0, v1] (st) h 0 0) ∧ (x = 0 → eX6_type ret F n 14 [v0, v1] (st) h 0 0)) := (amWp_dec rfl dX6_type_11 rfl).trans rfl
theorem wX6_type_14 {ret F n h} {v0 v1 st} : eX6_type ret F (n + 1) 14 [v0, v1] (st) h 0 0 = (eX6_type ret F n 15 [v0, v1] (.int (-1) :: st) h 0 0) := (amWp_dec rfl dX6_type_14 rfl).trans rfl
theorem wX6_type_15 {ret F n h} {v0 v1 x} : eX6_type ret F (n + 1) 15 [v0, v1] ([.int x]) h 0 0 = (ret (some (.int x)) h 0 0) := (amWp_dec rfl dX6_type_15 rfl).trans (amTrue ⟨_, rfl, rfl⟩)
theorem wX6_type_16 {ret F n h} {v0 v1 st} : eX6_type ret F (n + 1) 16 [v0, v1] (st) h 0 0 = (amIsR v0 ∧ eX6_type ret F n 17 [v0, v1] (v0 :: st) h 0 0) := (amWp_dec rfl dX6_type_16 rfl).trans rfl
theorem wX6_type_17 {ret F n h} {v0 v1 a} : eX6_type ret F (n + 1) 17 [v0, v1] (.ref a :: []) h 0 0 = (h.1 a = (0, 6) ∧ eX6_type ret F n 20 [v0, v1] (.int (h.2.1 a 7) :: []) h 0 0) := (amWp_dec rfl dX6_type_17 rfl).trans (amS4 (Nat.le_of_ble_eq_true rfl) (Nat.le_of_ble_eq_true rfl) (Nat.le_of_ble_eq_true rfl) (Nat.le_of_ble_eq_true rfl))
theorem wX6_type_20 {ret F n h} {v0 v1 st} : eX6_type ret F (n + 1) 20 [v0, v1] (st) h 0 0 = (eX6_type ret F n 22 [v0, v1] (.int (nI 90) :: st) h 0 0) := (amWp_dec rfl dX6_type_20 rfl).trans rfl
theorem wX6_type_22 {ret F n h} {v0 v1 st y x} : eX6_type ret F (n + 1) 22 [v0, v1] (.int y :: .int x :: st) h 0 0 = ((¬ x = y → eX6_type ret F n 28 [v0, v1] (st) h 0 0) ∧ (x = y → eX6_type ret F n 25 [v0, v1] (st) h 0 0)) := (amWp_dec rfl dX6_type_22 rfl).trans rfl
theorem wX6_type_25 {ret F n h} {v0 v1 st} : eX6_type ret F (n + 1) 25 [v0, v1] (st) h 0 0 = (eX6_type ret F n 27 [v0, v1] (.int (-3) :: st) h 0 0) := (amWp_dec rfl dX6_type_25 rfl).trans rfl
theorem wX6_type_27 {ret F n h} {v0 v1 x} : eX6_type ret F (n + 1) 27 [v0, v1] ([.int x]) h 0 0 = (ret (some (.int x)) h 0 0) := (amWp_dec rfl dX6_type_27 rfl).trans (amTrue ⟨_, rfl, rfl⟩)
theorem wX6_type_28 {ret F n h} {v0 v1 st} : eX6_type ret F (n + 1) 28 [v0, v1] (st) h 0 0 = (amIsR v0 ∧ eX6_type ret F n 29 [v0, v1] (v0 :: st) h 0 0) := (amWp_dec rfl dX6_type_28 rfl).trans rfl
theorem wX6_type_29 {ret F n h} {v0 v1 a} : eX6_type ret F (n + 1) 29 [v0, v1] (.ref a :: []) h 0 0 = (h.1 a = (0, 6) ∧ eX6_type ret F n 32 [v0, v1] (va_rf (h.2.2.2.1 a 6) :: []) h 0 0) := (amWp_dec rfl dX6_type_29 rfl).trans (amS4 (Nat.le_of_ble_eq_true rfl) (Nat.le_of_ble_eq_true rfl) (Nat.le_of_ble_eq_true rfl) (Nat.le_of_ble_eq_true rfl))
theorem wX6_type_32 {ret F n h} {v0 v1 st} : eX6_type ret F (n + 1) 32 [v0, v1] (st) h 0 0 = (amIsR v0 ∧ eX6_type ret F n 33 [v0, v1] (v0 :: st) h 0 0) := (amWp_dec rfl dX6_type_32 rfl).trans rfl
theorem wX6_type_33 {ret F n h} {v0 v1 r0 a} : eX6_type ret F (n + 1) 33 [v0, v1] (.ref a :: r0 :: []) h 0 0 = (h.1 a = (0, 6) ∧ eX6_type ret F n 36 [v0, v1] (.int (h.2.1 a 7) :: r0 :: []) h 0 0) := (amWp_dec rfl dX6_type_33 rfl).trans (amS4 (Nat.le_of_ble_eq_true rfl) (Nat.le_of_ble_eq_true rfl) (Nat.le_of_ble_eq_true rfl) (Nat.le_of_ble_eq_true rfl))
theorem wX6_type_36 {ret F n h} {v0 st x} : eX6_type ret F (n + 1) 36 [v0, .int x] (st) h 0 0 = (eX6_type ret F n 37 [v0, .int x] (.int x :: st) h 0 0) := (amWp_dec rfl dX6_type_36 rfl).trans rfl
theorem wX6_type_37 {ret F n h} {v0 v1 st y x a} : eX6_type ret F (n + 1) 37 [v0, v1] (.int y :: .int x :: .ref a :: st) h 0 0 = ((h.1 a).1 = 1 ∧ vp_in x (h.1 a).2 ∧ amN0 ≤ a ∧ eX6_type ret F n 38 [v0, v1] (st) (amSI h (amU h.2.1 a x.toNatClampNeg y)) 0 0) := (amWp_dec rfl dX6_type_37 rfl).trans rfl
theorem wX6_type_38 {ret F n h} {v0 v1 st} : eX6_type ret F (n + 1) 38 [v0, v1] (st) h 0 0 = (amIsR v0 ∧ eX6_type ret F n 39 [v0, v1] (v0 :: st) h 0 0) := (amWp_dec rfl dX6_type_38 rfl).trans rfl
theorem wX6_type_39 {ret F n h} {v0 v1 st b} : eX6_type ret F (n + 1) 39 [v0, v1] (.ref b :: st) h 0 0 = (eX6_type ret F n 40 [v0, v1] (.ref b :: .ref b :: st) h 0 0) := (amWp_dec rfl dX6_type_39 rfl).trans (amTrue rfl)
theorem wX6_type_40 {ret F n h} {v0 v1 r0 a} : eX6_type ret F (n + 1) 40 [v0, v1] (.ref a :: r0 :: []) h 0 0 = (h.1 a = (0, 6) ∧ eX6_type ret F n 43 [v0, v1] (.int (h.2.1 a 7) :: r0 :: []) h 0 0) := (amWp_dec rfl dX6_type_40 rfl).trans (amS4 (Nat.le_of_ble_eq_true rfl) (Nat.le_of_ble_eq_true rfl) (Nat.le_of_ble_eq_true rfl) (Nat.le_of_ble_eq_true rfl))
theorem wX6_type_43 {ret F n h} {v0 v1 st} : eX6_type ret F (n + 1) 43 [v0, v1] (st) h 0 0 = (eX6_type ret F n 44 [v0, v1] (.int (nI 1) :: st) h 0 0) := (amWp_dec rfl dX6_type_43 rfl).trans rfl
theorem wX6_type_44 {ret F n h} {v0 v1 st y x} : eX6_type ret F (n + 1) 44 [v0, v1] (.int y :: .int x :: st) h 0 0 = (eX6_type ret F n 45 [v0, v1] (.int (x + y) :: st) h 0 0) := (amWp_dec rfl dX6_type_44 rfl).trans rfl
theorem wX6_type_45 {ret F n h} {v0 v1 x a} : eX6_type ret F (n + 1) 45 [v0, v1] (.int x :: .ref a :: []) h 0 0 = (h.1 a = (0, 6) ∧ amN0 ≤ a ∧ amFit .int (.int x) ∧ eX6_type ret F n 48 [v0, v1] ([]) (amSI h (amU h.2.1 a 7 x)) 0 0) := (amWp_dec rfl dX6_type_45 rfl).trans (amS4 (Nat.le_of_ble_eq_true rfl) (Nat.le_of_ble_eq_true rfl) (Nat.le_of_ble_eq_true rfl) (Nat.le_of_ble_eq_true rfl))
theorem wX6_type_48 {ret F n h} {v0 v1 st} : eX6_type ret F (n + 1) 48 [v0, v1] (st) h 0 0 = (amIsR v0 ∧ eX6_type ret F n 49 [v0, v1] (v0 :: st) h 0 0) := (amWp_dec rfl dX6_type_48 rfl).trans rfl
theorem wX6_type_49 {ret F n h} {v0 v1 a} : eX6_type ret F (n + 1) 49 [v0, v1] (.ref a :: []) h 0 0 = (h.1 a = (0, 6) ∧ eX6_type ret F n 52 [v0, v1] (.int (h.2.1 a 7) :: []) h 0 0) := (amWp_dec rfl dX6_type_49 rfl).trans (amS4 (Nat.le_of_ble_eq_true rfl) (Nat.le_of_ble_eq_true rfl) (Nat.le_of_ble_eq_true rfl) (Nat.le_of_ble_eq_true rfl))
theorem wX6_type_52 {ret F n h} {v0 v1 x} : eX6_type ret F (n + 1) 52 [v0, v1] ([.int x]) h 0 0 = (ret (some (.int x)) h 0 0) := (amWp_dec rfl dX6_type_52 rfl).trans (amTrue ⟨_, rfl, rfl⟩)
theorem evX6_type (l : Launch) (G : amG) : ∀ pc S i sz, amLk rX6_type pc = some S → decode cX6_type pc = .ok (i, sz) → amSiteP pc G l yX6_type.cls yX6_type.name yX6_type.desc (amRm 2 0 0) i sz S.1 S.2.1 S.2.2.1 S.2.2.2 := amLk_ok (by
  refine List.forall_mem_cons.mpr ⟨⟨_, _, dX6_type_2, amSite.P (amSiteLdc2 q1599)⟩, ?_⟩
  refine List.forall_mem_cons.mpr ⟨⟨_, _, dX6_type_5, amSite.P (amSiteLdc2 q1600)⟩, ?_⟩
  refine List.forall_mem_cons.mpr ⟨⟨_, _, dX6_type_8, amSite.P (amSiteS (metX6_in l G) rfl (by decide) (by decide) (lw_S q1381 q1382 q94 q1383) ⟨by decide +kernel, by decide +kernel, by decide +kernel⟩)⟩, ?_⟩
  refine List.forall_mem_cons.mpr ⟨⟨_, _, dX6_type_17, amSite.P (amSiteGet ⟨_, rfl, by decide, Or.inl q1302⟩)⟩, ?_⟩
  refine List.forall_mem_cons.mpr ⟨⟨_, _, dX6_type_29, amSite.P (amSiteGet ⟨_, rfl, by decide, Or.inl q1301⟩)⟩, ?_⟩
  refine List.forall_mem_cons.mpr ⟨⟨_, _, dX6_type_33, amSite.P (amSiteGet ⟨_, rfl, by decide, Or.inl q1302⟩)⟩, ?_⟩
  refine List.forall_mem_cons.mpr ⟨⟨_, _, dX6_type_40, amSite.P (amSiteGet ⟨_, rfl, by decide, Or.inl q1302⟩)⟩, ?_⟩
  refine List.forall_mem_cons.mpr ⟨⟨_, _, dX6_type_45, amSite.P (amSitePut ⟨_, rfl, by decide, Or.inl q1302⟩ (fun q h => by cases h; rfl))⟩, ?_⟩
  refine List.forall_mem_cons.mpr ⟨⟨_, _, dX6_type_49, amSite.P (amSiteGet ⟨_, rfl, by decide, Or.inl q1302⟩)⟩, ?_⟩
  exact fun _ h => absurd h List.not_mem_nil)
theorem goX6_type {ret F} (hF : amCld cX6_type kX6_type (amLk rX6_type) (some .int) 0 0 ret F) (n : Nat) {pc ls st h k z} (q : sX6_type ret F n pc ls st h k z) : F pc ls st h k z := hF.1 n pc ls st h k z q
theorem metX6_type (l : Launch) (G : amG) : amMet l G yX6_type (ws_ yX6_type cX6_type 2 (some .int)) 2 0 0 tX6_type := by
  refine amMet_of (cut := kX6_type) (by decide +kernel) (evX6_type l G) ?_
  intro as h K hT
  match as, hT with
  | [.ref t, .int x], ⟨X, e1, w, hK⟩ =>
  refine ⟨Nat.le_of_ble_eq_true rfl, fun F hF => ?_⟩
  show F 0 [.ref t, .int x] [] h 0 0
  obtain ⟨t, rfl⟩ : ∃ i : Nat, i = t := ⟨_, rfl⟩
  subst e1
  have hR := w.1
  obtain ⟨t90, tn, tt⟩ := w.2.2.2.2.1
  by_cases q : lN 32 ≤ x.toInt64 ∧ x.toInt64 ≤ lN 126
  · by_cases z : X.2.2.2.1.length = 90
    · rw [typeR, if_neg (fun y => y q), if_pos z] at hK
      have key := hK h (msFr.rf h) w
      rw [z] at tn
      refine goX6_type hF 40 ?_
      simp (disch := omega) only [wX6_type_0, uX6_type_0, wX6_type_1, wX6_type_2, wX6_type_5, wX6_type_8, wX6_type_11, wX6_type_14, wX6_type_15, wX6_type_16, wX6_type_17, wX6_type_20, wX6_type_22, wX6_type_25, wX6_type_27, wX6_type_28, wX6_type_29, wX6_type_32, wX6_type_33, wX6_type_36, wX6_type_37, wX6_type_38, wX6_type_39, wX6_type_40, wX6_type_43, wX6_type_44, wX6_type_45, wX6_type_48, wX6_type_49, wX6_type_52, amSI_1, amSI_2, amSI_3, amSI_s, amU_at, amIsR_ref, amIsR_null, amIsR_rf, amRf_some, amRf_none, amClr_int, amClr_ref, amClr_null, amClr_long, amClr_ra, amClr_rf, amFit_int, amFit_oref, amFit_aref, amFit_onull, amFit_anull, amOptSome, amOptNone, List.cons_append, List.nil_append, true_and, and_true, true_implies, not_true_eq_false, not_false_eq_true, false_implies, and_self, Nat.add_zero, Nat.zero_add, ne_eq, Prod.mk.injEq, amC01_0, amC01_1, amC01_nb, amNb0, amNb1, amTcpI_d, Nat.reduceLeDiff, Nat.reduceAdd, Nat.reduceSub, Nat.reduceEqDiff, Nat.le_refl, amN0le, hR.s, hR.r, amLeI, amLtI, amEqI, amLe0, amGt0, amEq0, amNotPosI, amGe0, amVI, amCl_nI, amAdd, amSub, amMul, tX6_in_d, q, tn]
      exact amRet.of (by decide) (by decide) key
    · have z' : (X.2.2.2.1.length = 90) = False := eq_false z
      rw [typeR, if_neg (fun y => y q), if_neg z] at hK
      obtain ⟨c, c1, c2, rfl⟩ := (amInL (by decide) (by decide)).mp q
      rw [amCl_nI (by omega)] at hK
      have lt : (X.2.2.2.1 ++ [c]).length = X.2.2.2.1.length + 1 := by simp
      have key := hK (amSI h (amU (amU h.2.1 129 X.2.2.2.1.length (nI c)) 124 7 (nI (X.2.2.2.1.length + 1)))) (msFr.si (fun i hi => by simp (disch := omega) only [amU_at, amU_ne, amU_nj, amU_neR, up_ne, up_at, amSI_2])) ⟨w.1, w.2.1.kept (by funext j; simp (disch := omega) only [amU_at, amU_ne, amU_nj, amU_neR, up_ne, up_at, amSI_2]), w.2.2.1.kept (by simp (disch := omega) only [amU_at, amU_ne, amU_nj, amU_neR, up_ne, up_at, amSI_2]) (by funext j; simp (disch := omega) only [amU_at, amU_ne, amU_nj, amU_neR, up_ne, up_at, amSI_2]), w.2.2.2.1.kept (by simp (disch := omega) only [amU_at, amU_ne, amU_nj, amU_neR, up_ne, up_at, amSI_2]) (by funext j; simp (disch := omega) only [amU_at, amU_ne, amU_nj, amU_neR, up_ne, up_at, amSI_2]) (by funext j; simp (disch := omega) only [amU_at, amU_ne, amU_nj, amU_neR, up_ne, up_at, amSI_2]), ⟨by rw [lt]; omega, by
        rw [lt]
        simp (disch := omega) only [amU_at, amU_ne, amU_nj, amU_neR, up_ne, up_at, amSI_2], fun i hi => by
        rw [lt] at hi
        show _ = nI ((X.2.2.2.1 ++ [c]).getD i 0)
        rw [app_getD]
        by_cases y : i < X.2.2.2.1.length
        · rw [if_pos y]
          simp (disch := omega) only [amU_at, amU_ne, amU_nj, amU_neR, up_ne, up_at, amSI_2]
          exact tt i y
        · have : i = X.2.2.2.1.length := by omega
          subst this
          rw [if_neg y, if_pos rfl]
          simp (disch := omega) only [amU_at, amU_ne, amU_nj, amU_neR, up_ne, up_at, amSI_2]⟩, w.2.2.2.2.2.kept (by funext j; simp (disch := omega) only [amU_at, amU_ne, amU_nj, amU_neR, up_ne, up_at, amSI_2]) (by funext j; simp (disch := omega) only [amU_at, amU_ne, amU_nj, amU_neR, up_ne, up_at, amSI_2]) rfl⟩
      refine goX6_type hF 40 ?_
      simp (disch := omega) only [wX6_type_0, uX6_type_0, wX6_type_1, wX6_type_2, wX6_type_5, wX6_type_8, wX6_type_11, wX6_type_14, wX6_type_15, wX6_type_16, wX6_type_17, wX6_type_20, wX6_type_22, wX6_type_25, wX6_type_27, wX6_type_28, wX6_type_29, wX6_type_32, wX6_type_33, wX6_type_36, wX6_type_37, wX6_type_38, wX6_type_39, wX6_type_40, wX6_type_43, wX6_type_44, wX6_type_45, wX6_type_48, wX6_type_49, wX6_type_52, amSI_1, amSI_2, amSI_3, amSI_s, amU_at, amIsR_ref, amIsR_null, amIsR_rf, amRf_some, amRf_none, amClr_int, amClr_ref, amClr_null, amClr_long, amClr_ra, amClr_rf, amFit_int, amFit_oref, amFit_aref, amFit_onull, amFit_anull, amOptSome, amOptNone, List.cons_append, List.nil_append, true_and, and_true, true_implies, not_true_eq_false, not_false_eq_true, false_implies, and_self, Nat.add_zero, Nat.zero_add, ne_eq, Prod.mk.injEq, amC01_0, amC01_1, amC01_nb, amNb0, amNb1, amTcpI_d, Nat.reduceLeDiff, Nat.reduceAdd, Nat.reduceSub, Nat.reduceEqDiff, Nat.le_refl, amN0le, hR.s, hR.r, amLeI, amLtI, amEqI, amLe0, amGt0, amEq0, amNotPosI, amGe0, amVI, amCl_nI, amAdd, amSub, amMul, tX6_in_d, q, tn, z', amU_ne]
      exact amRet.of (by decide) (by decide) key
  · rw [typeR, if_pos q] at hK
    have key := hK h (msFr.rf h) w
    refine goX6_type hF 40 ?_
    simp (disch := omega) only [wX6_type_0, uX6_type_0, wX6_type_1, wX6_type_2, wX6_type_5, wX6_type_8, wX6_type_11, wX6_type_14, wX6_type_15, wX6_type_16, wX6_type_17, wX6_type_20, wX6_type_22, wX6_type_25, wX6_type_27, wX6_type_28, wX6_type_29, wX6_type_32, wX6_type_33, wX6_type_36, wX6_type_37, wX6_type_38, wX6_type_39, wX6_type_40, wX6_type_43, wX6_type_44, wX6_type_45, wX6_type_48, wX6_type_49, wX6_type_52, amSI_1, amSI_2, amSI_3, amSI_s, amU_at, amIsR_ref, amIsR_null, amIsR_rf, amRf_some, amRf_none, amClr_int, amClr_ref, amClr_null, amClr_long, amClr_ra, amClr_rf, amFit_int, amFit_oref, amFit_aref, amFit_onull, amFit_anull, amOptSome, amOptNone, List.cons_append, List.nil_append, true_and, and_true, true_implies, not_true_eq_false, not_false_eq_true, false_implies, and_self, Nat.add_zero, Nat.zero_add, ne_eq, Prod.mk.injEq, amC01_0, amC01_1, amC01_nb, amNb0, amNb1, amTcpI_d, Nat.reduceLeDiff, Nat.reduceAdd, Nat.reduceSub, Nat.reduceEqDiff, Nat.le_refl, amN0le, hR.s, hR.r, tX6_in_d, q]
    exact amRet.of (by decide) (by decide) key
theorem tX6_type_d {t : Nat} {x : Int32} {h : amH} {K : Option Value → amH → Prop} : tX6_type [.ref t, .int x] h K = ∃ X : XS, t = (124 : Nat) ∧ MdW h X ∧ ∀ h', msFr h h' → MdW h' (typeR X x).1 → K (some (.int (typeR X x).2)) h' := rfl
