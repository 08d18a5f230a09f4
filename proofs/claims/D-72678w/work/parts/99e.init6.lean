/-! the reference made -/
set_option maxRecDepth 100000
def mL : List (Nat × (Nat × Nat)) := [(125, (1, 27)), (126, (1, 162)), (127, (1, 27)), (128, (1, 162)), (129, (1, 90)), (130, (1, 4)), (131, (1, 4)), (132, (5, 96)), (133, (5, 24)), (134, (1, 7)), (135, (1, 20)), (136, (1, 20)), (137, (1, 7)), (138, (1, 7)), (139, (1, 7)), (140, (1, 7)), (141, (1, 64)), (142, (1, 27))]
def mR : List (Nat × Nat) := [(0, 125), (1, 126), (3, 127), (4, 128), (6, 129), (8, 130), (9, 131), (10, 132), (11, 133), (12, 134), (13, 135), (14, 136), (15, 137), (16, 138), (17, 139), (18, 140), (22, 141), (24, 142)]
def cM (h0 h : amH) (n f : Nat) : Prop := h.2.2.2.2 = n ∧ 124 < n ∧ h.1 124 = (0, 6) ∧ (∀ p ∈ mL, p.1 < n → h.1 p.1 = p.2) ∧ (∀ p ∈ mR, p.1 < f → h.2.2.2.1 124 p.1 = some p.2) ∧ (∀ i : Nat, 124 < i → i < n → ∀ j : Nat, h.2.1 i j = 0) ∧ (∀ j : Nat, j ≠ 5 → h.2.1 124 j = 0) ∧ (5 < f → h.2.1 124 5 = -1) ∧ ∀ i : Nat, i < 124 → amSame h0 h i
theorem cM.n {h0 h : amH} {n f : Nat} (q : cM h0 h n f) : h.2.2.2.2 = n := q.1
theorem cM.r0 {h0 h : amH} {n f : Nat} (q : cM h0 h n f) : h.1 124 = (0, 6) := q.2.2.1
theorem cM.arr {h0 h : amH} {n f : Nat} {s : Nat × Nat} (q : cM h0 h n f) (c : ∀ p ∈ mL, p.1 = n → s = p.2) : cM h0 (amNew h s) (n + 1) f := by
  obtain ⟨q1, q2, q3, q4, q5, q6, q7, q8, q9⟩ := q
  refine ⟨by show h.2.2.2.2 + 1 = _; omega, by omega, by rw [amNew_1 (by omega)]; exact q3, fun p hp hl => ?_, fun p hp hl => by rw [amNew_r (by omega)]; exact q5 p hp hl, fun i h1 h2 j => ?_, fun j hj => by rw [amNew_i (by omega)]; exact q7 j hj, fun h5 => by rw [amNew_i (by omega)]; exact q8 h5, fun i hi => (q9 i hi).tr (amNew_same (by omega))⟩
  · by_cases e : p.1 = n
    · rw [e, ← q1, amNew_s0]; exact c p hp e
    · rw [amNew_1 (by omega)]; exact q4 p hp (by omega)
  · by_cases e : i = n
    · rw [e, ← q1, amNew_i0]
    · rw [amNew_i (by omega)]; exact q6 i h1 (by omega) j
theorem cM.put {h0 h : amH} {n f f' b : Nat} (q : cM h0 h n f) (c : ∀ p ∈ mR, f ≤ p.1 → p.1 < f' → p = (f, b)) (c5 : f' ≤ 5 ∨ 5 < f) : cM h0 (amWr h 124 f (.ref b)) n f' := by
  obtain ⟨q1, q2, q3, q4, q5, q6, q7, q8, q9⟩ := q
  refine ⟨by rw [amWr_n]; exact q1, q2, by rw [amWr_1]; exact q3, fun p hp hl => by rw [amWr_1]; exact q4 p hp hl, fun p hp hl => ?_, q6, q7, fun h5 => q8 (by omega), fun i hi => (q9 i hi).tr (amWr_same (by omega))⟩
  by_cases c1 : p.1 < f
  · rw [amWr_rn (i := 0) (by omega)]
    exact q5 p hp c1
  · rw [c p hp (by omega) hl]
    exact amWr_r
theorem cM.m1 {h0 h : amH} {n : Nat} (q : cM h0 h n 5) : cM h0 (amSI h (amU h.2.1 124 5 (-1))) n 6 := by
  obtain ⟨q1, q2, q3, q4, q5, q6, q7, q8, q9⟩ := q
  refine ⟨q1, q2, q3, q4, fun p hp hl => q5 p hp (by
    have key : ∀ p ∈ mR, p.1 ≠ 5 := by decide
    have := key p hp
    omega), fun i h1 h2 j => ?_, fun j hj => ?_, fun _ => (by show amU h.2.1 124 5 (-1) 124 5 = -1; exact amU_at _ _ _ _), fun i hi => (q9 i hi).tr ⟨rfl, amU_neR (by omega), rfl, rfl⟩⟩
  · show amU h.2.1 124 5 (-1) i j = 0
    rw [amU_neR (by omega)]; exact q6 i h1 h2 j
  · show amU h.2.1 124 5 (-1) 124 j = 0
    rw [amU_nj hj]; exact q7 j hj
def XSi : XS := (HSi, [], none, [], fun _ => none)
def tX6_init : amT := fun as h K => match as with
  | [.ref a] => a = (124 : Nat) ∧ h.2.2.2.2 = 125 ∧ h.1 124 = (0, 6) ∧ (∀ j : Nat, h.2.1 124 j = 0) ∧ ∀ h', h'.2.2.2.2 = 143 → (∀ i : Nat, i < 124 → amSame h h' i) → MdW h' XSi → K none h'
  | _ => False
/-! ReadingStagesModel.<init>()V -/
def kX6_init : Nat → Bool := fun pc => pc == 176
def rX6_init : List (Nat × amS) := [(1, 1, 0, 0, amIsRef (fun _ h K => K none h)), (9, 2, 0, 0, amTput 6 0), (18, 2, 0, 0, amTput 6 1), (26, 2, 0, 0, amTput 6 3), (35, 2, 0, 0, amTput 6 4), (40, 2, 0, 0, amTput 6 5), (48, 2, 0, 0, amTput 6 6), (55, 2, 0, 0, amTput 6 8), (62, 2, 0, 0, amTput 6 9), (70, 2, 0, 0, amTput 6 10), (78, 2, 0, 0, amTput 6 11), (86, 2, 0, 0, amTput 6 12), (94, 2, 0, 0, amTput 6 13), (102, 2, 0, 0, amTput 6 14), (110, 2, 0, 0, amTput 6 15), (118, 2, 0, 0, amTput 6 16), (126, 2, 0, 0, amTput 6 17), (134, 2, 0, 0, amTput 6 18), (142, 2, 0, 0, amTput 6 22), (150, 2, 0, 0, amTput 6 24), (154, 1, 0, 0, amTget 6 0), (161, 1, 0, 0, amTget 6 0), (168, 1, 0, 0, amTget 6 0), (182, 1, 0, 0, amTget 6 8)]
def eX6_init (ret : Option Value → amH → Nat → Nat → Prop) (F : amX) : Nat → amX := amWp cX6_init kX6_init (amLk rX6_init) none 20 900 ret F
def sX6_init (ret : Option Value → amH → Nat → Nat → Prop) (F : amX) : Nat → amX := amWs cX6_init kX6_init (amLk rX6_init) none 20 900 ret F
theorem wX6_init_0 {ret F n h k z} {v0 v1 st} : eX6_init ret F (n + 1) 0 [v0, v1] (st) h k z = (amIsR v0 ∧ eX6_init ret F n 1 [v0, v1] (v0 :: st) h k z) := (amWp_dec rfl dX6_init_0 rfl).trans rfl
theorem uX6_init_0 {ret F n h k z} {v0 v1 st} : sX6_init ret F n 0 [v0, v1] (st) h k z = (amIsR v0 ∧ eX6_init ret F n 1 [v0, v1] (v0 :: st) h k z) := (amWs_dec dX6_init_0 rfl).trans rfl
theorem wX6_init_1 {ret F n h k z} {v0 v1 x0} : eX6_init ret F (n + 1) 1 [v0, v1] (.ref x0 :: []) h k z = (k + 0 ≤ 20 ∧ z + 0 ≤ 900 ∧ eX6_init ret F n 4 [v0, v1] ([]) h (k + 0) (z + 0)) := (amWp_dec rfl dX6_init_1 rfl).trans (amS2 (Nat.le_of_ble_eq_true rfl) (Nat.le_of_ble_eq_true rfl))
theorem wX6_init_4 {ret F n h k z} {v0 v1 st} : eX6_init ret F (n + 1) 4 [v0, v1] (st) h k z = (amIsR v0 ∧ eX6_init ret F n 5 [v0, v1] (v0 :: st) h k z) := (amWp_dec rfl dX6_init_4 rfl).trans rfl
theorem wX6_init_5 {ret F n h k z} {v0 v1 st} : eX6_init ret F (n + 1) 5 [v0, v1] (st) h k z = (eX6_init ret F n 7 [v0, v1] (.int (nI 27) :: st) h k z) := (amWp_dec rfl dX6_init_5 rfl).trans rfl
theorem wX6_init_7 {ret F n h k z} {v0 v1 st x} : eX6_init ret F (n + 1) 7 [v0, v1] (.int x :: st) h k z = (¬ x < 0 ∧ x.toNatClampNeg ≤ 67108864 ∧ k + 1 ≤ 20 ∧ z + x.toNatClampNeg ≤ 900 ∧ eX6_init ret F n 9 [v0, v1] (.ref h.2.2.2.2 :: st) (amNew h (1, x.toNatClampNeg)) (k + 1) (z + x.toNatClampNeg)) := (amWp_dec rfl dX6_init_7 rfl).trans (amTrue (Nat.le_of_ble_eq_true rfl))
theorem wX6_init_9 {ret F n h k z} {v0 v1 w a} : eX6_init ret F (n + 1) 9 [v0, v1] (w :: .ref a :: []) h k z = (k + 0 ≤ 20 ∧ z + 0 ≤ 900 ∧ h.1 a = (0, 6) ∧ amN0 ≤ a ∧ amFit (.array .int) w ∧ eX6_init ret F n 12 [v0, v1] ([]) (amWr h a 0 w) (k + 0) (z + 0)) := (amWp_dec rfl dX6_init_9 rfl).trans (amS2 (Nat.le_of_ble_eq_true rfl) (Nat.le_of_ble_eq_true rfl))
theorem wX6_init_12 {ret F n h k z} {v0 v1 st} : eX6_init ret F (n + 1) 12 [v0, v1] (st) h k z = (amIsR v0 ∧ eX6_init ret F n 13 [v0, v1] (v0 :: st) h k z) := (amWp_dec rfl dX6_init_12 rfl).trans rfl
theorem wX6_init_13 {ret F n h k z} {v0 v1 st} : eX6_init ret F (n + 1) 13 [v0, v1] (st) h k z = (eX6_init ret F n 16 [v0, v1] (.int (nI 162) :: st) h k z) := (amWp_dec rfl dX6_init_13 rfl).trans rfl
theorem wX6_init_16 {ret F n h k z} {v0 v1 st x} : eX6_init ret F (n + 1) 16 [v0, v1] (.int x :: st) h k z = (¬ x < 0 ∧ x.toNatClampNeg ≤ 67108864 ∧ k + 1 ≤ 20 ∧ z + x.toNatClampNeg ≤ 900 ∧ eX6_init ret F n 18 [v0, v1] (.ref h.2.2.2.2 :: st) (amNew h (1, x.toNatClampNeg)) (k + 1) (z + x.toNatClampNeg)) := (amWp_dec rfl dX6_init_16 rfl).trans (amTrue (Nat.le_of_ble_eq_true rfl))
theorem wX6_init_18 {ret F n h k z} {v0 v1 w a} : eX6_init ret F (n + 1) 18 [v0, v1] (w :: .ref a :: []) h k z = (k + 0 ≤ 20 ∧ z + 0 ≤ 900 ∧ h.1 a = (0, 6) ∧ amN0 ≤ a ∧ amFit (.array .int) w ∧ eX6_init ret F n 21 [v0, v1] ([]) (amWr h a 1 w) (k + 0) (z + 0)) := (amWp_dec rfl dX6_init_18 rfl).trans (amS2 (Nat.le_of_ble_eq_true rfl) (Nat.le_of_ble_eq_true rfl))
theorem wX6_init_21 {ret F n h k z} {v0 v1 st} : eX6_init ret F (n + 1) 21 [v0, v1] (st) h k z = (amIsR v0 ∧ eX6_init ret F n 22 [v0, v1] (v0 :: st) h k z) := (amWp_dec rfl dX6_init_21 rfl).trans rfl
theorem wX6_init_22 {ret F n h k z} {v0 v1 st} : eX6_init ret F (n + 1) 22 [v0, v1] (st) h k z = (eX6_init ret F n 24 [v0, v1] (.int (nI 27) :: st) h k z) := (amWp_dec rfl dX6_init_22 rfl).trans rfl
theorem wX6_init_24 {ret F n h k z} {v0 v1 st x} : eX6_init ret F (n + 1) 24 [v0, v1] (.int x :: st) h k z = (¬ x < 0 ∧ x.toNatClampNeg ≤ 67108864 ∧ k + 1 ≤ 20 ∧ z + x.toNatClampNeg ≤ 900 ∧ eX6_init ret F n 26 [v0, v1] (.ref h.2.2.2.2 :: st) (amNew h (1, x.toNatClampNeg)) (k + 1) (z + x.toNatClampNeg)) := (amWp_dec rfl dX6_init_24 rfl).trans (amTrue (Nat.le_of_ble_eq_true rfl))
theorem wX6_init_26 {ret F n h k z} {v0 v1 w a} : eX6_init ret F (n + 1) 26 [v0, v1] (w :: .ref a :: []) h k z = (k + 0 ≤ 20 ∧ z + 0 ≤ 900 ∧ h.1 a = (0, 6) ∧ amN0 ≤ a ∧ amFit (.array .int) w ∧ eX6_init ret F n 29 [v0, v1] ([]) (amWr h a 3 w) (k + 0) (z + 0)) := (amWp_dec rfl dX6_init_26 rfl).trans (amS2 (Nat.le_of_ble_eq_true rfl) (Nat.le_of_ble_eq_true rfl))
theorem wX6_init_29 {ret F n h k z} {v0 v1 st} : eX6_init ret F (n + 1) 29 [v0, v1] (st) h k z = (amIsR v0 ∧ eX6_init ret F n 30 [v0, v1] (v0 :: st) h k z) := (amWp_dec rfl dX6_init_29 rfl).trans rfl
theorem wX6_init_30 {ret F n h k z} {v0 v1 st} : eX6_init ret F (n + 1) 30 [v0, v1] (st) h k z = (eX6_init ret F n 33 [v0, v1] (.int (nI 162) :: st) h k z) := (amWp_dec rfl dX6_init_30 rfl).trans rfl
theorem wX6_init_33 {ret F n h k z} {v0 v1 st x} : eX6_init ret F (n + 1) 33 [v0, v1] (.int x :: st) h k z = (¬ x < 0 ∧ x.toNatClampNeg ≤ 67108864 ∧ k + 1 ≤ 20 ∧ z + x.toNatClampNeg ≤ 900 ∧ eX6_init ret F n 35 [v0, v1] (.ref h.2.2.2.2 :: st) (amNew h (1, x.toNatClampNeg)) (k + 1) (z + x.toNatClampNeg)) := (amWp_dec rfl dX6_init_33 rfl).trans (amTrue (Nat.le_of_ble_eq_true rfl))
theorem wX6_init_35 {ret F n h k z} {v0 v1 w a} : eX6_init ret F (n + 1) 35 [v0, v1] (w :: .ref a :: []) h k z = (k + 0 ≤ 20 ∧ z + 0 ≤ 900 ∧ h.1 a = (0, 6) ∧ amN0 ≤ a ∧ amFit (.array .int) w ∧ eX6_init ret F n 38 [v0, v1] ([]) (amWr h a 4 w) (k + 0) (z + 0)) := (amWp_dec rfl dX6_init_35 rfl).trans (amS2 (Nat.le_of_ble_eq_true rfl) (Nat.le_of_ble_eq_true rfl))
theorem wX6_init_38 {ret F n h k z} {v0 v1 st} : eX6_init ret F (n + 1) 38 [v0, v1] (st) h k z = (amIsR v0 ∧ eX6_init ret F n 39 [v0, v1] (v0 :: st) h k z) := (amWp_dec rfl dX6_init_38 rfl).trans rfl
theorem wX6_init_39 {ret F n h k z} {v0 v1 st} : eX6_init ret F (n + 1) 39 [v0, v1] (st) h k z = (eX6_init ret F n 40 [v0, v1] (.int (-1) :: st) h k z) := (amWp_dec rfl dX6_init_39 rfl).trans rfl
theorem wX6_init_40 {ret F n h k z} {v0 v1 x a} : eX6_init ret F (n + 1) 40 [v0, v1] (.int x :: .ref a :: []) h k z = (k + 0 ≤ 20 ∧ z + 0 ≤ 900 ∧ h.1 a = (0, 6) ∧ amN0 ≤ a ∧ amFit .int (.int x) ∧ eX6_init ret F n 43 [v0, v1] ([]) (amSI h (amU h.2.1 a 5 x)) (k + 0) (z + 0)) := (amWp_dec rfl dX6_init_40 rfl).trans (amS2 (Nat.le_of_ble_eq_true rfl) (Nat.le_of_ble_eq_true rfl))
theorem wX6_init_43 {ret F n h k z} {v0 v1 st} : eX6_init ret F (n + 1) 43 [v0, v1] (st) h k z = (amIsR v0 ∧ eX6_init ret F n 44 [v0, v1] (v0 :: st) h k z) := (amWp_dec rfl dX6_init_43 rfl).trans rfl
theorem wX6_init_44 {ret F n h k z} {v0 v1 st} : eX6_init ret F (n + 1) 44 [v0, v1] (st) h k z = (eX6_init ret F n 46 [v0, v1] (.int (nI 90) :: st) h k z) := (amWp_dec rfl dX6_init_44 rfl).trans rfl
theorem wX6_init_46 {ret F n h k z} {v0 v1 st x} : eX6_init ret F (n + 1) 46 [v0, v1] (.int x :: st) h k z = (¬ x < 0 ∧ x.toNatClampNeg ≤ 67108864 ∧ k + 1 ≤ 20 ∧ z + x.toNatClampNeg ≤ 900 ∧ eX6_init ret F n 48 [v0, v1] (.ref h.2.2.2.2 :: st) (amNew h (1, x.toNatClampNeg)) (k + 1) (z + x.toNatClampNeg)) := (amWp_dec rfl dX6_init_46 rfl).trans (amTrue (Nat.le_of_ble_eq_true rfl))
theorem wX6_init_48 {ret F n h k z} {v0 v1 w a} : eX6_init ret F (n + 1) 48 [v0, v1] (w :: .ref a :: []) h k z = (k + 0 ≤ 20 ∧ z + 0 ≤ 900 ∧ h.1 a = (0, 6) ∧ amN0 ≤ a ∧ amFit (.array .int) w ∧ eX6_init ret F n 51 [v0, v1] ([]) (amWr h a 6 w) (k + 0) (z + 0)) := (amWp_dec rfl dX6_init_48 rfl).trans (amS2 (Nat.le_of_ble_eq_true rfl) (Nat.le_of_ble_eq_true rfl))
theorem wX6_init_51 {ret F n h k z} {v0 v1 st} : eX6_init ret F (n + 1) 51 [v0, v1] (st) h k z = (amIsR v0 ∧ eX6_init ret F n 52 [v0, v1] (v0 :: st) h k z) := (amWp_dec rfl dX6_init_51 rfl).trans rfl
theorem wX6_init_52 {ret F n h k z} {v0 v1 st} : eX6_init ret F (n + 1) 52 [v0, v1] (st) h k z = (eX6_init ret F n 53 [v0, v1] (.int (nI 4) :: st) h k z) := (amWp_dec rfl dX6_init_52 rfl).trans rfl
theorem wX6_init_53 {ret F n h k z} {v0 v1 st x} : eX6_init ret F (n + 1) 53 [v0, v1] (.int x :: st) h k z = (¬ x < 0 ∧ x.toNatClampNeg ≤ 67108864 ∧ k + 1 ≤ 20 ∧ z + x.toNatClampNeg ≤ 900 ∧ eX6_init ret F n 55 [v0, v1] (.ref h.2.2.2.2 :: st) (amNew h (1, x.toNatClampNeg)) (k + 1) (z + x.toNatClampNeg)) := (amWp_dec rfl dX6_init_53 rfl).trans (amTrue (Nat.le_of_ble_eq_true rfl))
theorem wX6_init_55 {ret F n h k z} {v0 v1 w a} : eX6_init ret F (n + 1) 55 [v0, v1] (w :: .ref a :: []) h k z = (k + 0 ≤ 20 ∧ z + 0 ≤ 900 ∧ h.1 a = (0, 6) ∧ amN0 ≤ a ∧ amFit (.array .int) w ∧ eX6_init ret F n 58 [v0, v1] ([]) (amWr h a 8 w) (k + 0) (z + 0)) := (amWp_dec rfl dX6_init_55 rfl).trans (amS2 (Nat.le_of_ble_eq_true rfl) (Nat.le_of_ble_eq_true rfl))
theorem wX6_init_58 {ret F n h k z} {v0 v1 st} : eX6_init ret F (n + 1) 58 [v0, v1] (st) h k z = (amIsR v0 ∧ eX6_init ret F n 59 [v0, v1] (v0 :: st) h k z) := (amWp_dec rfl dX6_init_58 rfl).trans rfl
theorem wX6_init_59 {ret F n h k z} {v0 v1 st} : eX6_init ret F (n + 1) 59 [v0, v1] (st) h k z = (eX6_init ret F n 60 [v0, v1] (.int (nI 4) :: st) h k z) := (amWp_dec rfl dX6_init_59 rfl).trans rfl
theorem wX6_init_60 {ret F n h k z} {v0 v1 st x} : eX6_init ret F (n + 1) 60 [v0, v1] (.int x :: st) h k z = (¬ x < 0 ∧ x.toNatClampNeg ≤ 67108864 ∧ k + 1 ≤ 20 ∧ z + x.toNatClampNeg ≤ 900 ∧ eX6_init ret F n 62 [v0, v1] (.ref h.2.2.2.2 :: st) (amNew h (1, x.toNatClampNeg)) (k + 1) (z + x.toNatClampNeg)) := (amWp_dec rfl dX6_init_60 rfl).trans (amTrue (Nat.le_of_ble_eq_true rfl))
theorem wX6_init_62 {ret F n h k z} {v0 v1 w a} : eX6_init ret F (n + 1) 62 [v0, v1] (w :: .ref a :: []) h k z = (k + 0 ≤ 20 ∧ z + 0 ≤ 900 ∧ h.1 a = (0, 6) ∧ amN0 ≤ a ∧ amFit (.array .int) w ∧ eX6_init ret F n 65 [v0, v1] ([]) (amWr h a 9 w) (k + 0) (z + 0)) := (amWp_dec rfl dX6_init_62 rfl).trans (amS2 (Nat.le_of_ble_eq_true rfl) (Nat.le_of_ble_eq_true rfl))
theorem wX6_init_65 {ret F n h k z} {v0 v1 st} : eX6_init ret F (n + 1) 65 [v0, v1] (st) h k z = (amIsR v0 ∧ eX6_init ret F n 66 [v0, v1] (v0 :: st) h k z) := (amWp_dec rfl dX6_init_65 rfl).trans rfl
theorem wX6_init_66 {ret F n h k z} {v0 v1 st} : eX6_init ret F (n + 1) 66 [v0, v1] (st) h k z = (eX6_init ret F n 68 [v0, v1] (.int (nI 96) :: st) h k z) := (amWp_dec rfl dX6_init_66 rfl).trans rfl
theorem wX6_init_68 {ret F n h k z} {v0 v1 st x} : eX6_init ret F (n + 1) 68 [v0, v1] (.int x :: st) h k z = (¬ x < 0 ∧ x.toNatClampNeg ≤ 67108864 ∧ k + 1 ≤ 20 ∧ z + x.toNatClampNeg ≤ 900 ∧ eX6_init ret F n 70 [v0, v1] (.ref h.2.2.2.2 :: st) (amNew h (5, x.toNatClampNeg)) (k + 1) (z + x.toNatClampNeg)) := (amWp_dec rfl dX6_init_68 rfl).trans (amTrue (Nat.le_of_ble_eq_true rfl))
theorem wX6_init_70 {ret F n h k z} {v0 v1 w a} : eX6_init ret F (n + 1) 70 [v0, v1] (w :: .ref a :: []) h k z = (k + 0 ≤ 20 ∧ z + 0 ≤ 900 ∧ h.1 a = (0, 6) ∧ amN0 ≤ a ∧ amFit (.array .long) w ∧ eX6_init ret F n 73 [v0, v1] ([]) (amWr h a 10 w) (k + 0) (z + 0)) := (amWp_dec rfl dX6_init_70 rfl).trans (amS2 (Nat.le_of_ble_eq_true rfl) (Nat.le_of_ble_eq_true rfl))
theorem wX6_init_73 {ret F n h k z} {v0 v1 st} : eX6_init ret F (n + 1) 73 [v0, v1] (st) h k z = (amIsR v0 ∧ eX6_init ret F n 74 [v0, v1] (v0 :: st) h k z) := (amWp_dec rfl dX6_init_73 rfl).trans rfl
theorem wX6_init_74 {ret F n h k z} {v0 v1 st} : eX6_init ret F (n + 1) 74 [v0, v1] (st) h k z = (eX6_init ret F n 76 [v0, v1] (.int (nI 24) :: st) h k z) := (amWp_dec rfl dX6_init_74 rfl).trans rfl
theorem wX6_init_76 {ret F n h k z} {v0 v1 st x} : eX6_init ret F (n + 1) 76 [v0, v1] (.int x :: st) h k z = (¬ x < 0 ∧ x.toNatClampNeg ≤ 67108864 ∧ k + 1 ≤ 20 ∧ z + x.toNatClampNeg ≤ 900 ∧ eX6_init ret F n 78 [v0, v1] (.ref h.2.2.2.2 :: st) (amNew h (5, x.toNatClampNeg)) (k + 1) (z + x.toNatClampNeg)) := (amWp_dec rfl dX6_init_76 rfl).trans (amTrue (Nat.le_of_ble_eq_true rfl))
theorem wX6_init_78 {ret F n h k z} {v0 v1 w a} : eX6_init ret F (n + 1) 78 [v0, v1] (w :: .ref a :: []) h k z = (k + 0 ≤ 20 ∧ z + 0 ≤ 900 ∧ h.1 a = (0, 6) ∧ amN0 ≤ a ∧ amFit (.array .long) w ∧ eX6_init ret F n 81 [v0, v1] ([]) (amWr h a 11 w) (k + 0) (z + 0)) := (amWp_dec rfl dX6_init_78 rfl).trans (amS2 (Nat.le_of_ble_eq_true rfl) (Nat.le_of_ble_eq_true rfl))
theorem wX6_init_81 {ret F n h k z} {v0 v1 st} : eX6_init ret F (n + 1) 81 [v0, v1] (st) h k z = (amIsR v0 ∧ eX6_init ret F n 82 [v0, v1] (v0 :: st) h k z) := (amWp_dec rfl dX6_init_81 rfl).trans rfl
theorem wX6_init_82 {ret F n h k z} {v0 v1 st} : eX6_init ret F (n + 1) 82 [v0, v1] (st) h k z = (eX6_init ret F n 84 [v0, v1] (.int (nI 7) :: st) h k z) := (amWp_dec rfl dX6_init_82 rfl).trans rfl
theorem wX6_init_84 {ret F n h k z} {v0 v1 st x} : eX6_init ret F (n + 1) 84 [v0, v1] (.int x :: st) h k z = (¬ x < 0 ∧ x.toNatClampNeg ≤ 67108864 ∧ k + 1 ≤ 20 ∧ z + x.toNatClampNeg ≤ 900 ∧ eX6_init ret F n 86 [v0, v1] (.ref h.2.2.2.2 :: st) (amNew h (1, x.toNatClampNeg)) (k + 1) (z + x.toNatClampNeg)) := (amWp_dec rfl dX6_init_84 rfl).trans (amTrue (Nat.le_of_ble_eq_true rfl))
theorem wX6_init_86 {ret F n h k z} {v0 v1 w a} : eX6_init ret F (n + 1) 86 [v0, v1] (w :: .ref a :: []) h k z = (k + 0 ≤ 20 ∧ z + 0 ≤ 900 ∧ h.1 a = (0, 6) ∧ amN0 ≤ a ∧ amFit (.array .int) w ∧ eX6_init ret F n 89 [v0, v1] ([]) (amWr h a 12 w) (k + 0) (z + 0)) := (amWp_dec rfl dX6_init_86 rfl).trans (amS2 (Nat.le_of_ble_eq_true rfl) (Nat.le_of_ble_eq_true rfl))
theorem wX6_init_89 {ret F n h k z} {v0 v1 st} : eX6_init ret F (n + 1) 89 [v0, v1] (st) h k z = (amIsR v0 ∧ eX6_init ret F n 90 [v0, v1] (v0 :: st) h k z) := (amWp_dec rfl dX6_init_89 rfl).trans rfl
theorem wX6_init_90 {ret F n h k z} {v0 v1 st} : eX6_init ret F (n + 1) 90 [v0, v1] (st) h k z = (eX6_init ret F n 92 [v0, v1] (.int (nI 20) :: st) h k z) := (amWp_dec rfl dX6_init_90 rfl).trans rfl
theorem wX6_init_92 {ret F n h k z} {v0 v1 st x} : eX6_init ret F (n + 1) 92 [v0, v1] (.int x :: st) h k z = (¬ x < 0 ∧ x.toNatClampNeg ≤ 67108864 ∧ k + 1 ≤ 20 ∧ z + x.toNatClampNeg ≤ 900 ∧ eX6_init ret F n 94 [v0, v1] (.ref h.2.2.2.2 :: st) (amNew h (1, x.toNatClampNeg)) (k + 1) (z + x.toNatClampNeg)) := (amWp_dec rfl dX6_init_92 rfl).trans (amTrue (Nat.le_of_ble_eq_true rfl))
theorem wX6_init_94 {ret F n h k z} {v0 v1 w a} : eX6_init ret F (n + 1) 94 [v0, v1] (w :: .ref a :: []) h k z = (k + 0 ≤ 20 ∧ z + 0 ≤ 900 ∧ h.1 a = (0, 6) ∧ amN0 ≤ a ∧ amFit (.array .int) w ∧ eX6_init ret F n 97 [v0, v1] ([]) (amWr h a 13 w) (k + 0) (z + 0)) := (amWp_dec rfl dX6_init_94 rfl).trans (amS2 (Nat.le_of_ble_eq_true rfl) (Nat.le_of_ble_eq_true rfl))
theorem wX6_init_97 {ret F n h k z} {v0 v1 st} : eX6_init ret F (n + 1) 97 [v0, v1] (st) h k z = (amIsR v0 ∧ eX6_init ret F n 98 [v0, v1] (v0 :: st) h k z) := (amWp_dec rfl dX6_init_97 rfl).trans rfl
theorem wX6_init_98 {ret F n h k z} {v0 v1 st} : eX6_init ret F (n + 1) 98 [v0, v1] (st) h k z = (eX6_init ret F n 100 [v0, v1] (.int (nI 20) :: st) h k z) := (amWp_dec rfl dX6_init_98 rfl).trans rfl
theorem wX6_init_100 {ret F n h k z} {v0 v1 st x} : eX6_init ret F (n + 1) 100 [v0, v1] (.int x :: st) h k z = (¬ x < 0 ∧ x.toNatClampNeg ≤ 67108864 ∧ k + 1 ≤ 20 ∧ z + x.toNatClampNeg ≤ 900 ∧ eX6_init ret F n 102 [v0, v1] (.ref h.2.2.2.2 :: st) (amNew h (1, x.toNatClampNeg)) (k + 1) (z + x.toNatClampNeg)) := (amWp_dec rfl dX6_init_100 rfl).trans (amTrue (Nat.le_of_ble_eq_true rfl))
theorem wX6_init_102 {ret F n h k z} {v0 v1 w a} : eX6_init ret F (n + 1) 102 [v0, v1] (w :: .ref a :: []) h k z = (k + 0 ≤ 20 ∧ z + 0 ≤ 900 ∧ h.1 a = (0, 6) ∧ amN0 ≤ a ∧ amFit (.array .int) w ∧ eX6_init ret F n 105 [v0, v1] ([]) (amWr h a 14 w) (k + 0) (z + 0)) := (amWp_dec rfl dX6_init_102 rfl).trans (amS2 (Nat.le_of_ble_eq_true rfl) (Nat.le_of_ble_eq_true rfl))
theorem wX6_init_105 {ret F n h k z} {v0 v1 st} : eX6_init ret F (n + 1) 105 [v0, v1] (st) h k z = (amIsR v0 ∧ eX6_init ret F n 106 [v0, v1] (v0 :: st) h k z) := (amWp_dec rfl dX6_init_105 rfl).trans rfl
theorem wX6_init_106 {ret F n h k z} {v0 v1 st} : eX6_init ret F (n + 1) 106 [v0, v1] (st) h k z = (eX6_init ret F n 108 [v0, v1] (.int (nI 7) :: st) h k z) := (amWp_dec rfl dX6_init_106 rfl).trans rfl
theorem wX6_init_108 {ret F n h k z} {v0 v1 st x} : eX6_init ret F (n + 1) 108 [v0, v1] (.int x :: st) h k z = (¬ x < 0 ∧ x.toNatClampNeg ≤ 67108864 ∧ k + 1 ≤ 20 ∧ z + x.toNatClampNeg ≤ 900 ∧ eX6_init ret F n 110 [v0, v1] (.ref h.2.2.2.2 :: st) (amNew h (1, x.toNatClampNeg)) (k + 1) (z + x.toNatClampNeg)) := (amWp_dec rfl dX6_init_108 rfl).trans (amTrue (Nat.le_of_ble_eq_true rfl))
theorem wX6_init_110 {ret F n h k z} {v0 v1 w a} : eX6_init ret F (n + 1) 110 [v0, v1] (w :: .ref a :: []) h k z = (k + 0 ≤ 20 ∧ z + 0 ≤ 900 ∧ h.1 a = (0, 6) ∧ amN0 ≤ a ∧ amFit (.array .int) w ∧ eX6_init ret F n 113 [v0, v1] ([]) (amWr h a 15 w) (k + 0) (z + 0)) := (amWp_dec rfl dX6_init_110 rfl).trans (amS2 (Nat.le_of_ble_eq_true rfl) (Nat.le_of_ble_eq_true rfl))
theorem wX6_init_113 {ret F n h k z} {v0 v1 st} : eX6_init ret F (n + 1) 113 [v0, v1] (st) h k z = (amIsR v0 ∧ eX6_init ret F n 114 [v0, v1] (v0 :: st) h k z) := (amWp_dec rfl dX6_init_113 rfl).trans rfl
theorem wX6_init_114 {ret F n h k z} {v0 v1 st} : eX6_init ret F (n + 1) 114 [v0, v1] (st) h k z = (eX6_init ret F n 116 [v0, v1] (.int (nI 7) :: st) h k z) := (amWp_dec rfl dX6_init_114 rfl).trans rfl
theorem wX6_init_116 {ret F n h k z} {v0 v1 st x} : eX6_init ret F (n + 1) 116 [v0, v1] (.int x :: st) h k z = (¬ x < 0 ∧ x.toNatClampNeg ≤ 67108864 ∧ k + 1 ≤ 20 ∧ z + x.toNatClampNeg ≤ 900 ∧ eX6_init ret F n 118 [v0, v1] (.ref h.2.2.2.2 :: st) (amNew h (1, x.toNatClampNeg)) (k + 1) (z + x.toNatClampNeg)) := (amWp_dec rfl dX6_init_116 rfl).trans (amTrue (Nat.le_of_ble_eq_true rfl))
theorem wX6_init_118 {ret F n h k z} {v0 v1 w a} : eX6_init ret F (n + 1) 118 [v0, v1] (w :: .ref a :: []) h k z = (k + 0 ≤ 20 ∧ z + 0 ≤ 900 ∧ h.1 a = (0, 6) ∧ amN0 ≤ a ∧ amFit (.array .int) w ∧ eX6_init ret F n 121 [v0, v1] ([]) (amWr h a 16 w) (k + 0) (z + 0)) := (amWp_dec rfl dX6_init_118 rfl).trans (amS2 (Nat.le_of_ble_eq_true rfl) (Nat.le_of_ble_eq_true rfl))
theorem wX6_init_121 {ret F n h k z} {v0 v1 st} : eX6_init ret F (n + 1) 121 [v0, v1] (st) h k z = (amIsR v0 ∧ eX6_init ret F n 122 [v0, v1] (v0 :: st) h k z) := (amWp_dec rfl dX6_init_121 rfl).trans rfl
theorem wX6_init_122 {ret F n h k z} {v0 v1 st} : eX6_init ret F (n + 1) 122 [v0, v1] (st) h k z = (eX6_init ret F n 124 [v0, v1] (.int (nI 7) :: st) h k z) := (amWp_dec rfl dX6_init_122 rfl).trans rfl
theorem wX6_init_124 {ret F n h k z} {v0 v1 st x} : eX6_init ret F (n + 1) 124 [v0, v1] (.int x :: st) h k z = (¬ x < 0 ∧ x.toNatClampNeg ≤ 67108864 ∧ k + 1 ≤ 20 ∧ z + x.toNatClampNeg ≤ 900 ∧ eX6_init ret F n 126 [v0, v1] (.ref h.2.2.2.2 :: st) (amNew h (1, x.toNatClampNeg)) (k + 1) (z + x.toNatClampNeg)) := (amWp_dec rfl dX6_init_124 rfl).trans (amTrue (Nat.le_of_ble_eq_true rfl))
theorem wX6_init_126 {ret F n h k z} {v0 v1 w a} : eX6_init ret F (n + 1) 126 [v0, v1] (w :: .ref a :: []) h k z = (k + 0 ≤ 20 ∧ z + 0 ≤ 900 ∧ h.1 a = (0, 6) ∧ amN0 ≤ a ∧ amFit (.array .int) w ∧ eX6_init ret F n 129 [v0, v1] ([]) (amWr h a 17 w) (k + 0) (z + 0)) := (amWp_dec rfl dX6_init_126 rfl).trans (amS2 (Nat.le_of_ble_eq_true rfl) (Nat.le_of_ble_eq_true rfl))
theorem wX6_init_129 {ret F n h k z} {v0 v1 st} : eX6_init ret F (n + 1) 129 [v0, v1] (st) h k z = (amIsR v0 ∧ eX6_init ret F n 130 [v0, v1] (v0 :: st) h k z) := (amWp_dec rfl dX6_init_129 rfl).trans rfl
theorem wX6_init_130 {ret F n h k z} {v0 v1 st} : eX6_init ret F (n + 1) 130 [v0, v1] (st) h k z = (eX6_init ret F n 132 [v0, v1] (.int (nI 7) :: st) h k z) := (amWp_dec rfl dX6_init_130 rfl).trans rfl
theorem wX6_init_132 {ret F n h k z} {v0 v1 st x} : eX6_init ret F (n + 1) 132 [v0, v1] (.int x :: st) h k z = (¬ x < 0 ∧ x.toNatClampNeg ≤ 67108864 ∧ k + 1 ≤ 20 ∧ z + x.toNatClampNeg ≤ 900 ∧ eX6_init ret F n 134 [v0, v1] (.ref h.2.2.2.2 :: st) (amNew h (1, x.toNatClampNeg)) (k + 1) (z + x.toNatClampNeg)) := (amWp_dec rfl dX6_init_132 rfl).trans (amTrue (Nat.le_of_ble_eq_true rfl))
theorem wX6_init_134 {ret F n h k z} {v0 v1 w a} : eX6_init ret F (n + 1) 134 [v0, v1] (w :: .ref a :: []) h k z = (k + 0 ≤ 20 ∧ z + 0 ≤ 900 ∧ h.1 a = (0, 6) ∧ amN0 ≤ a ∧ amFit (.array .int) w ∧ eX6_init ret F n 137 [v0, v1] ([]) (amWr h a 18 w) (k + 0) (z + 0)) := (amWp_dec rfl dX6_init_134 rfl).trans (amS2 (Nat.le_of_ble_eq_true rfl) (Nat.le_of_ble_eq_true rfl))
theorem wX6_init_137 {ret F n h k z} {v0 v1 st} : eX6_init ret F (n + 1) 137 [v0, v1] (st) h k z = (amIsR v0 ∧ eX6_init ret F n 138 [v0, v1] (v0 :: st) h k z) := (amWp_dec rfl dX6_init_137 rfl).trans rfl
theorem wX6_init_138 {ret F n h k z} {v0 v1 st} : eX6_init ret F (n + 1) 138 [v0, v1] (st) h k z = (eX6_init ret F n 140 [v0, v1] (.int (nI 64) :: st) h k z) := (amWp_dec rfl dX6_init_138 rfl).trans rfl
theorem wX6_init_140 {ret F n h k z} {v0 v1 st x} : eX6_init ret F (n + 1) 140 [v0, v1] (.int x :: st) h k z = (¬ x < 0 ∧ x.toNatClampNeg ≤ 67108864 ∧ k + 1 ≤ 20 ∧ z + x.toNatClampNeg ≤ 900 ∧ eX6_init ret F n 142 [v0, v1] (.ref h.2.2.2.2 :: st) (amNew h (1, x.toNatClampNeg)) (k + 1) (z + x.toNatClampNeg)) := (amWp_dec rfl dX6_init_140 rfl).trans (amTrue (Nat.le_of_ble_eq_true rfl))
theorem wX6_init_142 {ret F n h k z} {v0 v1 w a} : eX6_init ret F (n + 1) 142 [v0, v1] (w :: .ref a :: []) h k z = (k + 0 ≤ 20 ∧ z + 0 ≤ 900 ∧ h.1 a = (0, 6) ∧ amN0 ≤ a ∧ amFit (.array .int) w ∧ eX6_init ret F n 145 [v0, v1] ([]) (amWr h a 22 w) (k + 0) (z + 0)) := (amWp_dec rfl dX6_init_142 rfl).trans (amS2 (Nat.le_of_ble_eq_true rfl) (Nat.le_of_ble_eq_true rfl))
theorem wX6_init_145 {ret F n h k z} {v0 v1 st} : eX6_init ret F (n + 1) 145 [v0, v1] (st) h k z = (amIsR v0 ∧ eX6_init ret F n 146 [v0, v1] (v0 :: st) h k z) := (amWp_dec rfl dX6_init_145 rfl).trans rfl
theorem wX6_init_146 {ret F n h k z} {v0 v1 st} : eX6_init ret F (n + 1) 146 [v0, v1] (st) h k z = (eX6_init ret F n 148 [v0, v1] (.int (nI 27) :: st) h k z) := (amWp_dec rfl dX6_init_146 rfl).trans rfl
theorem wX6_init_148 {ret F n h k z} {v0 v1 st x} : eX6_init ret F (n + 1) 148 [v0, v1] (.int x :: st) h k z = (¬ x < 0 ∧ x.toNatClampNeg ≤ 67108864 ∧ k + 1 ≤ 20 ∧ z + x.toNatClampNeg ≤ 900 ∧ eX6_init ret F n 150 [v0, v1] (.ref h.2.2.2.2 :: st) (amNew h (1, x.toNatClampNeg)) (k + 1) (z + x.toNatClampNeg)) := (amWp_dec rfl dX6_init_148 rfl).trans (amTrue (Nat.le_of_ble_eq_true rfl))
theorem wX6_init_150 {ret F n h k z} {v0 v1 w a} : eX6_init ret F (n + 1) 150 [v0, v1] (w :: .ref a :: []) h k z = (k + 0 ≤ 20 ∧ z + 0 ≤ 900 ∧ h.1 a = (0, 6) ∧ amN0 ≤ a ∧ amFit (.array .int) w ∧ eX6_init ret F n 153 [v0, v1] ([]) (amWr h a 24 w) (k + 0) (z + 0)) := (amWp_dec rfl dX6_init_150 rfl).trans (amS2 (Nat.le_of_ble_eq_true rfl) (Nat.le_of_ble_eq_true rfl))
theorem wX6_init_153 {ret F n h k z} {v0 v1 st} : eX6_init ret F (n + 1) 153 [v0, v1] (st) h k z = (amIsR v0 ∧ eX6_init ret F n 154 [v0, v1] (v0 :: st) h k z) := (amWp_dec rfl dX6_init_153 rfl).trans rfl
theorem wX6_init_154 {ret F n h k z} {v0 v1 a} : eX6_init ret F (n + 1) 154 [v0, v1] (.ref a :: []) h k z = (k + 0 ≤ 20 ∧ z + 0 ≤ 900 ∧ h.1 a = (0, 6) ∧ eX6_init ret F n 157 [v0, v1] (va_rf (h.2.2.2.1 a 0) :: []) h (k + 0) (z + 0)) := (amWp_dec rfl dX6_init_154 rfl).trans (amS2 (Nat.le_of_ble_eq_true rfl) (Nat.le_of_ble_eq_true rfl))
theorem wX6_init_157 {ret F n h k z} {v0 v1 st} : eX6_init ret F (n + 1) 157 [v0, v1] (st) h k z = (eX6_init ret F n 158 [v0, v1] (.int (nI 2) :: st) h k z) := (amWp_dec rfl dX6_init_157 rfl).trans rfl
theorem wX6_init_158 {ret F n h k z} {v0 v1 st} : eX6_init ret F (n + 1) 158 [v0, v1] (st) h k z = (eX6_init ret F n 159 [v0, v1] (.int (nI 2) :: st) h k z) := (amWp_dec rfl dX6_init_158 rfl).trans rfl
theorem wX6_init_159 {ret F n h k z} {v0 v1 st y x a} : eX6_init ret F (n + 1) 159 [v0, v1] (.int y :: .int x :: .ref a :: st) h k z = ((h.1 a).1 = 1 ∧ vp_in x (h.1 a).2 ∧ amN0 ≤ a ∧ eX6_init ret F n 160 [v0, v1] (st) (amSI h (amU h.2.1 a x.toNatClampNeg y)) k z) := (amWp_dec rfl dX6_init_159 rfl).trans rfl
theorem wX6_init_160 {ret F n h k z} {v0 v1 st} : eX6_init ret F (n + 1) 160 [v0, v1] (st) h k z = (amIsR v0 ∧ eX6_init ret F n 161 [v0, v1] (v0 :: st) h k z) := (amWp_dec rfl dX6_init_160 rfl).trans rfl
theorem wX6_init_161 {ret F n h k z} {v0 v1 a} : eX6_init ret F (n + 1) 161 [v0, v1] (.ref a :: []) h k z = (k + 0 ≤ 20 ∧ z + 0 ≤ 900 ∧ h.1 a = (0, 6) ∧ eX6_init ret F n 164 [v0, v1] (va_rf (h.2.2.2.1 a 0) :: []) h (k + 0) (z + 0)) := (amWp_dec rfl dX6_init_161 rfl).trans (amS2 (Nat.le_of_ble_eq_true rfl) (Nat.le_of_ble_eq_true rfl))
theorem wX6_init_164 {ret F n h k z} {v0 v1 st} : eX6_init ret F (n + 1) 164 [v0, v1] (st) h k z = (eX6_init ret F n 165 [v0, v1] (.int (nI 3) :: st) h k z) := (amWp_dec rfl dX6_init_164 rfl).trans rfl
theorem wX6_init_165 {ret F n h k z} {v0 v1 st} : eX6_init ret F (n + 1) 165 [v0, v1] (st) h k z = (eX6_init ret F n 166 [v0, v1] (.int (nI 5) :: st) h k z) := (amWp_dec rfl dX6_init_165 rfl).trans rfl
theorem wX6_init_166 {ret F n h k z} {v0 v1 st y x a} : eX6_init ret F (n + 1) 166 [v0, v1] (.int y :: .int x :: .ref a :: st) h k z = ((h.1 a).1 = 1 ∧ vp_in x (h.1 a).2 ∧ amN0 ≤ a ∧ eX6_init ret F n 167 [v0, v1] (st) (amSI h (amU h.2.1 a x.toNatClampNeg y)) k z) := (amWp_dec rfl dX6_init_166 rfl).trans rfl
theorem wX6_init_167 {ret F n h k z} {v0 v1 st} : eX6_init ret F (n + 1) 167 [v0, v1] (st) h k z = (amIsR v0 ∧ eX6_init ret F n 168 [v0, v1] (v0 :: st) h k z) := (amWp_dec rfl dX6_init_167 rfl).trans rfl
theorem wX6_init_168 {ret F n h k z} {v0 v1 a} : eX6_init ret F (n + 1) 168 [v0, v1] (.ref a :: []) h k z = (k + 0 ≤ 20 ∧ z + 0 ≤ 900 ∧ h.1 a = (0, 6) ∧ eX6_init ret F n 171 [v0, v1] (va_rf (h.2.2.2.1 a 0) :: []) h (k + 0) (z + 0)) := (amWp_dec rfl dX6_init_168 rfl).trans (amS2 (Nat.le_of_ble_eq_true rfl) (Nat.le_of_ble_eq_true rfl))
theorem wX6_init_171 {ret F n h k z} {v0 v1 st} : eX6_init ret F (n + 1) 171 [v0, v1] (st) h k z = (eX6_init ret F n 172 [v0, v1] (.int (nI 5) :: st) h k z) := (amWp_dec rfl dX6_init_171 rfl).trans rfl
theorem wX6_init_172 {ret F n h k z} {v0 v1 st} : eX6_init ret F (n + 1) 172 [v0, v1] (st) h k z = (eX6_init ret F n 173 [v0, v1] (.int (nI 1) :: st) h k z) := (amWp_dec rfl dX6_init_172 rfl).trans rfl
theorem wX6_init_173 {ret F n h k z} {v0 v1 st y x a} : eX6_init ret F (n + 1) 173 [v0, v1] (.int y :: .int x :: .ref a :: st) h k z = ((h.1 a).1 = 1 ∧ vp_in x (h.1 a).2 ∧ amN0 ≤ a ∧ eX6_init ret F n 174 [v0, v1] (st) (amSI h (amU h.2.1 a x.toNatClampNeg y)) k z) := (amWp_dec rfl dX6_init_173 rfl).trans rfl
theorem wX6_init_174 {ret F n h k z} {v0 v1 st} : eX6_init ret F (n + 1) 174 [v0, v1] (st) h k z = (eX6_init ret F n 175 [v0, v1] (.int (nI 0) :: st) h k z) := (amWp_dec rfl dX6_init_174 rfl).trans rfl
theorem wX6_init_175 {ret F n h k z} {v0 v1 st x} : eX6_init ret F (n + 1) 175 [v0, v1] (.int x :: st) h k z = (eX6_init ret F n 176 [amClr v0, .int x] (st) h k z) := (amWp_dec rfl dX6_init_175 rfl).trans (amTrue (Nat.le_of_ble_eq_true rfl))
theorem wX6_init_176 {ret F n ls st h k z} : eX6_init ret F (n + 1) 176 ls st h k z = F 176 ls st h k z := amWp_cut rfl
theorem uX6_init_176 {ret F n h k z} {v0 st x} : sX6_init ret F n 176 [v0, .int x] (st) h k z = (eX6_init ret F n 177 [v0, .int x] (.int x :: st) h k z) := (amWs_dec dX6_init_176 rfl).trans rfl
theorem wX6_init_177 {ret F n h k z} {v0 v1 st} : eX6_init ret F (n + 1) 177 [v0, v1] (st) h k z = (eX6_init ret F n 178 [v0, v1] (.int (nI 4) :: st) h k z) := (amWp_dec rfl dX6_init_177 rfl).trans rfl
theorem wX6_init_178 {ret F n h k z} {v0 v1 st y x} : eX6_init ret F (n + 1) 178 [v0, v1] (.int y :: .int x :: st) h k z = ((y ≤ x → eX6_init ret F n 194 [v0, v1] (st) h k z) ∧ (¬ y ≤ x → eX6_init ret F n 181 [v0, v1] (st) h k z)) := (amWp_dec rfl dX6_init_178 rfl).trans rfl
theorem wX6_init_181 {ret F n h k z} {v0 v1 st} : eX6_init ret F (n + 1) 181 [v0, v1] (st) h k z = (amIsR v0 ∧ eX6_init ret F n 182 [v0, v1] (v0 :: st) h k z) := (amWp_dec rfl dX6_init_181 rfl).trans rfl
theorem wX6_init_182 {ret F n h k z} {v0 v1 a} : eX6_init ret F (n + 1) 182 [v0, v1] (.ref a :: []) h k z = (k + 0 ≤ 20 ∧ z + 0 ≤ 900 ∧ h.1 a = (0, 6) ∧ eX6_init ret F n 185 [v0, v1] (va_rf (h.2.2.2.1 a 8) :: []) h (k + 0) (z + 0)) := (amWp_dec rfl dX6_init_182 rfl).trans (amS2 (Nat.le_of_ble_eq_true rfl) (Nat.le_of_ble_eq_true rfl))
theorem wX6_init_185 {ret F n h k z} {v0 st x} : eX6_init ret F (n + 1) 185 [v0, .int x] (st) h k z = (eX6_init ret F n 186 [v0, .int x] (.int x :: st) h k z) := (amWp_dec rfl dX6_init_185 rfl).trans rfl
theorem wX6_init_186 {ret F n h k z} {v0 v1 st} : eX6_init ret F (n + 1) 186 [v0, v1] (st) h k z = (eX6_init ret F n 187 [v0, v1] (.int (-1) :: st) h k z) := (amWp_dec rfl dX6_init_186 rfl).trans rfl
theorem wX6_init_187 {ret F n h k z} {v0 v1 st y x a} : eX6_init ret F (n + 1) 187 [v0, v1] (.int y :: .int x :: .ref a :: st) h k z = ((h.1 a).1 = 1 ∧ vp_in x (h.1 a).2 ∧ amN0 ≤ a ∧ eX6_init ret F n 188 [v0, v1] (st) (amSI h (amU h.2.1 a x.toNatClampNeg y)) k z) := (amWp_dec rfl dX6_init_187 rfl).trans rfl
theorem wX6_init_188 {ret F n h k z} {v0 st x} : eX6_init ret F (n + 1) 188 [v0, .int x] (st) h k z = (eX6_init ret F n 191 [amClr v0, .int (x + nI 1)] (st) h k z) := (amWp_dec rfl dX6_init_188 rfl).trans rfl
theorem wX6_init_191 {ret F n h k z} {v0 v1 st} : eX6_init ret F (n + 1) 191 [v0, v1] (st) h k z = (eX6_init ret F n 176 [v0, v1] (st) h k z) := (amWp_dec rfl dX6_init_191 rfl).trans rfl
theorem wX6_init_194 {ret F n h k z} {v0 v1} : eX6_init ret F (n + 1) 194 [v0, v1] ([]) h k z = (ret none h k z) := (amWp_dec rfl dX6_init_194 rfl).trans (amTrue rfl)
theorem evX6_init (l : Launch) (G : amG) : ∀ pc S i sz, amLk rX6_init pc = some S → decode cX6_init pc = .ok (i, sz) → amSiteP pc G l yX6_init.cls yX6_init.name yX6_init.desc (amRm 1 20 900) i sz S.1 S.2.1 S.2.2.1 S.2.2.2 := amLk_ok (by
  refine List.forall_mem_cons.mpr ⟨⟨_, _, dX6_init_1, amSite.P (amSiteO rfl (by decide) q1294 q121 q122)⟩, ?_⟩
  refine List.forall_mem_cons.mpr ⟨⟨_, _, dX6_init_9, amSite.P (amSitePutF ⟨_, rfl, by decide, Or.inl q1295⟩ (fun q h => by cases h; rfl))⟩, ?_⟩
  refine List.forall_mem_cons.mpr ⟨⟨_, _, dX6_init_18, amSite.P (amSitePutF ⟨_, rfl, by decide, Or.inl q1296⟩ (fun q h => by cases h; rfl))⟩, ?_⟩
  refine List.forall_mem_cons.mpr ⟨⟨_, _, dX6_init_26, amSite.P (amSitePutF ⟨_, rfl, by decide, Or.inl q1298⟩ (fun q h => by cases h; rfl))⟩, ?_⟩
  refine List.forall_mem_cons.mpr ⟨⟨_, _, dX6_init_35, amSite.P (amSitePutF ⟨_, rfl, by decide, Or.inl q1299⟩ (fun q h => by cases h; rfl))⟩, ?_⟩
  refine List.forall_mem_cons.mpr ⟨⟨_, _, dX6_init_40, amSite.P (amSitePut ⟨_, rfl, by decide, Or.inl q1300⟩ (fun q h => by cases h; rfl))⟩, ?_⟩
  refine List.forall_mem_cons.mpr ⟨⟨_, _, dX6_init_48, amSite.P (amSitePutF ⟨_, rfl, by decide, Or.inl q1301⟩ (fun q h => by cases h; rfl))⟩, ?_⟩
  refine List.forall_mem_cons.mpr ⟨⟨_, _, dX6_init_55, amSite.P (amSitePutF ⟨_, rfl, by decide, Or.inl q1303⟩ (fun q h => by cases h; rfl))⟩, ?_⟩
  refine List.forall_mem_cons.mpr ⟨⟨_, _, dX6_init_62, amSite.P (amSitePutF ⟨_, rfl, by decide, Or.inl q1304⟩ (fun q h => by cases h; rfl))⟩, ?_⟩
  refine List.forall_mem_cons.mpr ⟨⟨_, _, dX6_init_70, amSite.P (amSitePutF ⟨_, rfl, by decide, Or.inl q1305⟩ (fun q h => by cases h; rfl))⟩, ?_⟩
  refine List.forall_mem_cons.mpr ⟨⟨_, _, dX6_init_78, amSite.P (amSitePutF ⟨_, rfl, by decide, Or.inl q1306⟩ (fun q h => by cases h; rfl))⟩, ?_⟩
  refine List.forall_mem_cons.mpr ⟨⟨_, _, dX6_init_86, amSite.P (amSitePutF ⟨_, rfl, by decide, Or.inl q1307⟩ (fun q h => by cases h; rfl))⟩, ?_⟩
  refine List.forall_mem_cons.mpr ⟨⟨_, _, dX6_init_94, amSite.P (amSitePutF ⟨_, rfl, by decide, Or.inl q1308⟩ (fun q h => by cases h; rfl))⟩, ?_⟩
  refine List.forall_mem_cons.mpr ⟨⟨_, _, dX6_init_102, amSite.P (amSitePutF ⟨_, rfl, by decide, Or.inl q1309⟩ (fun q h => by cases h; rfl))⟩, ?_⟩
  refine List.forall_mem_cons.mpr ⟨⟨_, _, dX6_init_110, amSite.P (amSitePutF ⟨_, rfl, by decide, Or.inl q1310⟩ (fun q h => by cases h; rfl))⟩, ?_⟩
  refine List.forall_mem_cons.mpr ⟨⟨_, _, dX6_init_118, amSite.P (amSitePutF ⟨_, rfl, by decide, Or.inl q1311⟩ (fun q h => by cases h; rfl))⟩, ?_⟩
  refine List.forall_mem_cons.mpr ⟨⟨_, _, dX6_init_126, amSite.P (amSitePutF ⟨_, rfl, by decide, Or.inl q1312⟩ (fun q h => by cases h; rfl))⟩, ?_⟩
  refine List.forall_mem_cons.mpr ⟨⟨_, _, dX6_init_134, amSite.P (amSitePutF ⟨_, rfl, by decide, Or.inl q1313⟩ (fun q h => by cases h; rfl))⟩, ?_⟩
  refine List.forall_mem_cons.mpr ⟨⟨_, _, dX6_init_142, amSite.P (amSitePutF ⟨_, rfl, by decide, Or.inl q1317⟩ (fun q h => by cases h; rfl))⟩, ?_⟩
  refine List.forall_mem_cons.mpr ⟨⟨_, _, dX6_init_150, amSite.P (amSitePutF ⟨_, rfl, by decide, Or.inl q1319⟩ (fun q h => by cases h; rfl))⟩, ?_⟩
  refine List.forall_mem_cons.mpr ⟨⟨_, _, dX6_init_154, amSite.P (amSiteGet ⟨_, rfl, by decide, Or.inl q1295⟩)⟩, ?_⟩
  refine List.forall_mem_cons.mpr ⟨⟨_, _, dX6_init_161, amSite.P (amSiteGet ⟨_, rfl, by decide, Or.inl q1295⟩)⟩, ?_⟩
  refine List.forall_mem_cons.mpr ⟨⟨_, _, dX6_init_168, amSite.P (amSiteGet ⟨_, rfl, by decide, Or.inl q1295⟩)⟩, ?_⟩
  refine List.forall_mem_cons.mpr ⟨⟨_, _, dX6_init_182, amSite.P (amSiteGet ⟨_, rfl, by decide, Or.inl q1303⟩)⟩, ?_⟩
  exact fun _ h => absurd h List.not_mem_nil)
theorem goX6_init {ret F} (hF : amCld cX6_init kX6_init (amLk rX6_init) none 20 900 ret F) (n : Nat) {pc ls st h k z} (q : sX6_init ret F n pc ls st h k z) : F pc ls st h k z := hF.1 n pc ls st h k z q
theorem metX6_init (l : Launch) (G : amG) : amMet l G yX6_init (ws_ yX6_init cX6_init 2 none) 1 20 900 tX6_init := by
  refine amMet_of (cut := kX6_init) (by decide +kernel) (evX6_init l G) ?_
  intro as h K hT
  match as, hT with
  | [.ref a], ⟨e, hn, h1, z1, hK⟩ =>
  refine ⟨Nat.le_of_ble_eq_true rfl, fun F hF => ?_⟩
  show F 0 [.ref a, .retAddr 0] [] h 0 0
  obtain ⟨a, rfl⟩ : ∃ i : Nat, i = a := ⟨_, rfl⟩
  subst e
  have q0 : cM h h 125 0 := ⟨hn, by decide, h1, fun p hp hl => by
    have key : ∀ p ∈ mL, 125 ≤ p.1 := by decide
    have := key p hp
    omega, fun p _ hl => absurd hl (Nat.not_lt_zero _), fun i h1 h2 => by omega, fun j _ => z1 j, fun h5 => absurd h5 (by decide), fun i _ => amSame.rf h i⟩
  have n124 : (amN0 ≤ 124) = True := nI24 (by decide)
  have q1 := q0.arr (s := (1, 27)) (by decide)
  have q2 := q1.put (f' := 1) (b := 125) (by decide) (by decide)
  have q3 := q2.arr (s := (1, 162)) (by decide)
  have q4 := q3.put (f' := 3) (b := 126) (by decide) (by decide)
  have q5 := q4.arr (s := (1, 27)) (by decide)
  have q6 := q5.put (f' := 4) (b := 127) (by decide) (by decide)
  have q7 := q6.arr (s := (1, 162)) (by decide)
  have q8 := q7.put (f' := 5) (b := 128) (by decide) (by decide)
  have q9 := q8.m1
  have q10 := q9.arr (s := (1, 90)) (by decide)
  have q11 := q10.put (f' := 8) (b := 129) (by decide) (by decide)
  have q12 := q11.arr (s := (1, 4)) (by decide)
  have q13 := q12.put (f' := 9) (b := 130) (by decide) (by decide)
  have q14 := q13.arr (s := (1, 4)) (by decide)
  have q15 := q14.put (f' := 10) (b := 131) (by decide) (by decide)
  have q16 := q15.arr (s := (5, 96)) (by decide)
  have q17 := q16.put (f' := 11) (b := 132) (by decide) (by decide)
  have q18 := q17.arr (s := (5, 24)) (by decide)
  have q19 := q18.put (f' := 12) (b := 133) (by decide) (by decide)
  have q20 := q19.arr (s := (1, 7)) (by decide)
  have q21 := q20.put (f' := 13) (b := 134) (by decide) (by decide)
  have q22 := q21.arr (s := (1, 20)) (by decide)
  have q23 := q22.put (f' := 14) (b := 135) (by decide) (by decide)
  have q24 := q23.arr (s := (1, 20)) (by decide)
  have q25 := q24.put (f' := 15) (b := 136) (by decide) (by decide)
  have q26 := q25.arr (s := (1, 7)) (by decide)
  have q27 := q26.put (f' := 16) (b := 137) (by decide) (by decide)
  have q28 := q27.arr (s := (1, 7)) (by decide)
  have q29 := q28.put (f' := 17) (b := 138) (by decide) (by decide)
  have q30 := q29.arr (s := (1, 7)) (by decide)
  have q31 := q30.put (f' := 18) (b := 139) (by decide) (by decide)
  have q32 := q31.arr (s := (1, 7)) (by decide)
  have q33 := q32.put (f' := 22) (b := 140) (by decide) (by decide)
  have q34 := q33.arr (s := (1, 64)) (by decide)
  have q35 := q34.put (f' := 24) (b := 141) (by decide) (by decide)
  have q36 := q35.arr (s := (1, 27)) (by decide)
  have q37 := q36.put (f' := 25) (b := 142) (by decide) (by decide)
  generalize hg : amWr (amNew _ (1, 27)) 124 24 (.ref 142) = g at q37
  obtain ⟨g1, g2, g3, g4, g5, g6, g7, g8, g9⟩ := id q37
  have r0 := g5 (0, 125) (by decide) (by decide)
  have r8 := g5 (8, 130) (by decide) (by decide)
  have s125 := g4 (125, (1, 27)) (by decide) (by decide)
  have s130 := g4 (130, (1, 4)) (by decide) (by decide)
  have n125 : (amN0 ≤ 125) = True := nI24 (by decide)
  have n130 : (amN0 ≤ 130) = True := nI24 (by decide)
  have loop : ∀ t s m, s + t = 4 → (∀ i : Nat, i ≠ 130 → m i = amU (amU (amU g.2.1 125 2 (nI 2)) 125 3 (nI 5)) 125 5 (nI 1) i) → (∀ i : Nat, i < s → m 130 i = -1) → F 176 [.ref 124, .int (nI s)] [] (amSI g m) 18 762 := by
    intro t
    induction t with
    | zero =>
      intro s m e f1 f2
      have e : s = 4 := by omega
      subst e
      have m125 : ∀ j : Nat, m 125 j = amU (amU (amU g.2.1 125 2 (nI 2)) 125 3 (nI 5)) 125 5 (nI 1) 125 j := fun j => congrFun (f1 125 (by decide)) j
      have m124 : ∀ j : Nat, m 124 j = g.2.1 124 j := fun j => by
        rw [f1 124 (by decide)]
        simp (disch := omega) only [amU_at, amU_ne, amU_nj, amU_neR, up_ne, up_at, amSI_2]
      have z125 : ∀ j : Nat, g.2.1 125 j = 0 := fun j => g6 125 (by decide) (by decide) j
      have key := hK (amSI g m) g1 (fun i hi => (g9 i hi).tr ⟨rfl, by
        show m i = _
        rw [f1 i (by omega), amU_neR (by omega), amU_neR (by omega), amU_neR (by omega)], rfl, rfl⟩) ⟨⟨?_, ?_⟩, ?_, ?_, ?_, ?_, ?_⟩
      · refine goX6_init hF 60 ?_
        simp (disch := omega) only [wX6_init_0, uX6_init_0, wX6_init_1, wX6_init_4, wX6_init_5, wX6_init_7, wX6_init_9, wX6_init_12, wX6_init_13, wX6_init_16, wX6_init_18, wX6_init_21, wX6_init_22, wX6_init_24, wX6_init_26, wX6_init_29, wX6_init_30, wX6_init_33, wX6_init_35, wX6_init_38, wX6_init_39, wX6_init_40, wX6_init_43, wX6_init_44, wX6_init_46, wX6_init_48, wX6_init_51, wX6_init_52, wX6_init_53, wX6_init_55, wX6_init_58, wX6_init_59, wX6_init_60, wX6_init_62, wX6_init_65, wX6_init_66, wX6_init_68, wX6_init_70, wX6_init_73, wX6_init_74, wX6_init_76, wX6_init_78, wX6_init_81, wX6_init_82, wX6_init_84, wX6_init_86, wX6_init_89, wX6_init_90, wX6_init_92, wX6_init_94, wX6_init_97, wX6_init_98, wX6_init_100, wX6_init_102, wX6_init_105, wX6_init_106, wX6_init_108, wX6_init_110, wX6_init_113, wX6_init_114, wX6_init_116, wX6_init_118, wX6_init_121, wX6_init_122, wX6_init_124, wX6_init_126, wX6_init_129, wX6_init_130, wX6_init_132, wX6_init_134, wX6_init_137, wX6_init_138, wX6_init_140, wX6_init_142, wX6_init_145, wX6_init_146, wX6_init_148, wX6_init_150, wX6_init_153, wX6_init_154, wX6_init_157, wX6_init_158, wX6_init_159, wX6_init_160, wX6_init_161, wX6_init_164, wX6_init_165, wX6_init_166, wX6_init_167, wX6_init_168, wX6_init_171, wX6_init_172, wX6_init_173, wX6_init_174, wX6_init_175, wX6_init_176, uX6_init_176, wX6_init_177, wX6_init_178, wX6_init_181, wX6_init_182, wX6_init_185, wX6_init_186, wX6_init_187, wX6_init_188, wX6_init_191, wX6_init_194, amSI_1, amSI_2, amSI_3, amSI_s, amU_at, amIsR_ref, amIsR_null, amIsR_rf, amRf_some, amRf_none, amClr_int, amClr_ref, amClr_null, amClr_long, amClr_ra, amClr_rf, amFit_int, amFit_oref, amFit_aref, amFit_onull, amFit_anull, amOptSome, amOptNone, List.cons_append, List.nil_append, true_and, and_true, true_implies, not_true_eq_false, not_false_eq_true, false_implies, and_self, Nat.add_zero, Nat.zero_add, ne_eq, Prod.mk.injEq, amC01_0, amC01_1, amC01_nb, amNb0, amNb1, amTcpI_d, Nat.reduceLeDiff, Nat.reduceAdd, Nat.reduceSub, Nat.reduceEqDiff, Nat.le_refl, amN0le, amLeI, amLtI, amEqI, amLe0, amGt0, amEq0, amNotPosI, amGe0, amVI, amCl_nI, amAdd, amSub, amMul]
        exact amRet.of (by decide) (by decide) key
      · have k : ∀ p ∈ mL, g.1 p.1 = p.2 := fun p hp => g4 p hp (by
          have key : ∀ p ∈ mL, p.1 < 143 := by decide
          exact key p hp)
        exact ⟨g3, k (125, (1, 27)) (by decide), k (126, (1, 162)) (by decide), k (127, (1, 27)) (by decide), k (128, (1, 162)) (by decide), k (129, (1, 90)) (by decide), k (130, (1, 4)) (by decide), k (131, (1, 4)) (by decide), k (132, (5, 96)) (by decide), k (133, (5, 24)) (by decide), k (134, (1, 7)) (by decide), k (135, (1, 20)) (by decide), k (136, (1, 20)) (by decide), k (137, (1, 7)) (by decide), k (138, (1, 7)) (by decide), k (139, (1, 7)) (by decide), k (140, (1, 7)) (by decide), k (141, (1, 64)) (by decide), k (142, (1, 27)) (by decide)⟩
      · have k : ∀ p ∈ mR, g.2.2.2.1 124 p.1 = some p.2 := fun p hp => g5 p hp (by
          have key : ∀ p ∈ mR, p.1 < 25 := by decide
          exact key p hp)
        exact ⟨k (0, 125) (by decide), k (1, 126) (by decide), k (3, 127) (by decide), k (4, 128) (by decide), k (6, 129) (by decide), k (8, 130) (by decide), k (9, 131) (by decide), k (10, 132) (by decide), k (11, 133) (by decide), k (12, 134) (by decide), k (13, 135) (by decide), k (14, 136) (by decide), k (15, 137) (by decide), k (16, 138) (by decide), k (17, 139) (by decide), k (18, 140) (by decide), k (22, 141) (by decide), k (24, 142) (by decide)⟩
      · refine ⟨Nat.zero_le _, rfl, rfl, ?_, ?_, ?_, ?_, ?_, ?_, fun k hk => absurd hk (Nat.not_lt_zero k), fun k hk => absurd hk (Nat.not_lt_zero k), fun k hk => absurd hk (Nat.not_lt_zero k)⟩
        · show m 125 0 = nI 0
          rw [m125]
          simp (disch := omega) only [amU_at, amU_ne, amU_nj, amU_neR, up_ne, up_at, amSI_2]
          rw [z125]; rfl
        · show m 125 1 = nI 0
          rw [m125]
          simp (disch := omega) only [amU_at, amU_ne, amU_nj, amU_neR, up_ne, up_at, amSI_2]
          rw [z125]; rfl
        · show m 125 2 = nI 2
          rw [m125]
          simp (disch := omega) only [amU_at, amU_ne, amU_nj, amU_neR, up_ne, up_at, amSI_2]
        · show m 125 3 = nI 5
          rw [m125]
          simp (disch := omega) only [amU_at, amU_ne, amU_nj, amU_neR, up_ne, up_at, amSI_2]
        · show m 125 4 = nI 0
          rw [m125]
          simp (disch := omega) only [amU_at, amU_ne, amU_nj, amU_neR, up_ne, up_at, amSI_2]
          rw [z125]; rfl
        · show m 125 5 = nI 1
          rw [m125]
          simp (disch := omega) only [amU_at, amU_ne, amU_nj, amU_neR, up_ne, up_at, amSI_2]
      · refine ⟨Nat.zero_le _, ?_, fun k hk => absurd hk (Nat.not_lt_zero k)⟩
        show m 124 2 = nI 0
        rw [m124, g7 2 (by decide)]; rfl
      · show m 124 5 = -1
        rw [m124]; exact g8 (by decide)
      · refine ⟨Nat.zero_le _, ?_, fun k hk => absurd hk (Nat.not_lt_zero k)⟩
        show m 124 7 = nI 0
        rw [m124, g7 7 (by decide)]; rfl
      · intro s h4
        exact f2 s h4
    | succ t ih =>
      intro s m e f1 f2
      have c4 : (4 ≤ s) = False := eq_false (by omega)
      have nx := ih (s + 1) (amU m 130 s (-1)) (by omega) (fun i hi => by rw [amU_neR hi]; exact f1 i hi) (fun i hi => by
        by_cases y : i = s
        · rw [y]; exact amU_at _ _ _ _
        · rw [amU_nj y]; exact f2 i (by omega))
      refine goX6_init hF 60 ?_
      simp (disch := omega) only [wX6_init_0, uX6_init_0, wX6_init_1, wX6_init_4, wX6_init_5, wX6_init_7, wX6_init_9, wX6_init_12, wX6_init_13, wX6_init_16, wX6_init_18, wX6_init_21, wX6_init_22, wX6_init_24, wX6_init_26, wX6_init_29, wX6_init_30, wX6_init_33, wX6_init_35, wX6_init_38, wX6_init_39, wX6_init_40, wX6_init_43, wX6_init_44, wX6_init_46, wX6_init_48, wX6_init_51, wX6_init_52, wX6_init_53, wX6_init_55, wX6_init_58, wX6_init_59, wX6_init_60, wX6_init_62, wX6_init_65, wX6_init_66, wX6_init_68, wX6_init_70, wX6_init_73, wX6_init_74, wX6_init_76, wX6_init_78, wX6_init_81, wX6_init_82, wX6_init_84, wX6_init_86, wX6_init_89, wX6_init_90, wX6_init_92, wX6_init_94, wX6_init_97, wX6_init_98, wX6_init_100, wX6_init_102, wX6_init_105, wX6_init_106, wX6_init_108, wX6_init_110, wX6_init_113, wX6_init_114, wX6_init_116, wX6_init_118, wX6_init_121, wX6_init_122, wX6_init_124, wX6_init_126, wX6_init_129, wX6_init_130, wX6_init_132, wX6_init_134, wX6_init_137, wX6_init_138, wX6_init_140, wX6_init_142, wX6_init_145, wX6_init_146, wX6_init_148, wX6_init_150, wX6_init_153, wX6_init_154, wX6_init_157, wX6_init_158, wX6_init_159, wX6_init_160, wX6_init_161, wX6_init_164, wX6_init_165, wX6_init_166, wX6_init_167, wX6_init_168, wX6_init_171, wX6_init_172, wX6_init_173, wX6_init_174, wX6_init_175, wX6_init_176, uX6_init_176, wX6_init_177, wX6_init_178, wX6_init_181, wX6_init_182, wX6_init_185, wX6_init_186, wX6_init_187, wX6_init_188, wX6_init_191, wX6_init_194, amSI_1, amSI_2, amSI_3, amSI_s, amU_at, amIsR_ref, amIsR_null, amIsR_rf, amRf_some, amRf_none, amClr_int, amClr_ref, amClr_null, amClr_long, amClr_ra, amClr_rf, amFit_int, amFit_oref, amFit_aref, amFit_onull, amFit_anull, amOptSome, amOptNone, List.cons_append, List.nil_append, true_and, and_true, true_implies, not_true_eq_false, not_false_eq_true, false_implies, and_self, Nat.add_zero, Nat.zero_add, ne_eq, Prod.mk.injEq, amC01_0, amC01_1, amC01_nb, amNb0, amNb1, amTcpI_d, Nat.reduceLeDiff, Nat.reduceAdd, Nat.reduceSub, Nat.reduceEqDiff, Nat.le_refl, amN0le, amLeI, amLtI, amEqI, amLe0, amGt0, amEq0, amNotPosI, amGe0, amVI, amCl_nI, amAdd, amSub, amMul, c4, g3, r8, s130, n130]
      exact nx
  have nx := loop 4 0 _ rfl (fun _ _ => rfl) (fun i hi => absurd hi (Nat.not_lt_zero i))
  refine goX6_init hF 200 ?_
  simp (disch := omega) only [wX6_init_0, uX6_init_0, wX6_init_1, wX6_init_4, wX6_init_5, wX6_init_7, wX6_init_9, wX6_init_12, wX6_init_13, wX6_init_16, wX6_init_18, wX6_init_21, wX6_init_22, wX6_init_24, wX6_init_26, wX6_init_29, wX6_init_30, wX6_init_33, wX6_init_35, wX6_init_38, wX6_init_39, wX6_init_40, wX6_init_43, wX6_init_44, wX6_init_46, wX6_init_48, wX6_init_51, wX6_init_52, wX6_init_53, wX6_init_55, wX6_init_58, wX6_init_59, wX6_init_60, wX6_init_62, wX6_init_65, wX6_init_66, wX6_init_68, wX6_init_70, wX6_init_73, wX6_init_74, wX6_init_76, wX6_init_78, wX6_init_81, wX6_init_82, wX6_init_84, wX6_init_86, wX6_init_89, wX6_init_90, wX6_init_92, wX6_init_94, wX6_init_97, wX6_init_98, wX6_init_100, wX6_init_102, wX6_init_105, wX6_init_106, wX6_init_108, wX6_init_110, wX6_init_113, wX6_init_114, wX6_init_116, wX6_init_118, wX6_init_121, wX6_init_122, wX6_init_124, wX6_init_126, wX6_init_129, wX6_init_130, wX6_init_132, wX6_init_134, wX6_init_137, wX6_init_138, wX6_init_140, wX6_init_142, wX6_init_145, wX6_init_146, wX6_init_148, wX6_init_150, wX6_init_153, wX6_init_154, wX6_init_157, wX6_init_158, wX6_init_159, wX6_init_160, wX6_init_161, wX6_init_164, wX6_init_165, wX6_init_166, wX6_init_167, wX6_init_168, wX6_init_171, wX6_init_172, wX6_init_173, wX6_init_174, wX6_init_175, wX6_init_176, uX6_init_176, wX6_init_177, wX6_init_178, wX6_init_181, wX6_init_182, wX6_init_185, wX6_init_186, wX6_init_187, wX6_init_188, wX6_init_191, wX6_init_194, amSI_1, amSI_2, amSI_3, amSI_s, amU_at, amIsR_ref, amIsR_null, amIsR_rf, amRf_some, amRf_none, amClr_int, amClr_ref, amClr_null, amClr_long, amClr_ra, amClr_rf, amFit_int, amFit_oref, amFit_aref, amFit_onull, amFit_anull, amOptSome, amOptNone, List.cons_append, List.nil_append, true_and, and_true, true_implies, not_true_eq_false, not_false_eq_true, false_implies, and_self, Nat.add_zero, Nat.zero_add, ne_eq, Prod.mk.injEq, amC01_0, amC01_1, amC01_nb, amNb0, amNb1, amTcpI_d, Nat.reduceLeDiff, Nat.reduceAdd, Nat.reduceSub, Nat.reduceEqDiff, Nat.le_refl, amN0le, amLeI, amLtI, amEqI, amLe0, amGt0, amEq0, amNotPosI, amGe0, amVI, amCl_nI, amAdd, amSub, amMul, n124, q0.n, q0.r0, q1.n, q1.r0, q2.n, q2.r0, q3.n, q3.r0, q4.n, q4.r0, q5.n, q5.r0, q6.n, q6.r0, q7.n, q7.r0, q8.n, q8.r0, q9.n, q9.r0, q10.n, q10.r0, q11.n, q11.r0, q12.n, q12.r0, q13.n, q13.r0, q14.n, q14.r0, q15.n, q15.r0, q16.n, q16.r0, q17.n, q17.r0, q18.n, q18.r0, q19.n, q19.r0, q20.n, q20.r0, q21.n, q21.r0, q22.n, q22.r0, q23.n, q23.r0, q24.n, q24.r0, q25.n, q25.r0, q26.n, q26.r0, q27.n, q27.r0, q28.n, q28.r0, q29.n, q29.r0, q30.n, q30.r0, q31.n, q31.r0, q32.n, q32.r0, q33.n, q33.r0, q34.n, q34.r0, q35.n, q35.r0, q36.n, q36.r0, q37.n, q37.r0, hg, g3, r0, s125, n125]
  exact nx
theorem tX6_init_d {a : Nat} {h : amH} {K : Option Value → amH → Prop} : tX6_init [.ref a] h K = (a = (124 : Nat) ∧ h.2.2.2.2 = 125 ∧ h.1 124 = (0, 6) ∧ (∀ j : Nat, h.2.1 124 j = 0) ∧ ∀ h', h'.2.2.2.2 = 143 → (∀ i : Nat, i < 124 → amSame h h' i) → MdW h' XSi → K none h') := rfl
