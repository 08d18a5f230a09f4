/-! the reference's inner acts -/
set_option maxRecDepth 100000
/-- what an inner act may change -/
def maFr (m m' : Nat → Nat → Int32) : Prop := (∀ i : Nat, i ≠ 124 → i ≠ 125 → (i < 134 ∨ 141 ≤ i) → m' i = m i) ∧ ∀ j : Nat, (j < 19 ∨ 22 ≤ j) → m' 124 j = m 124 j
theorem maFr.rf (m : Nat → Nat → Int32) : maFr m m := ⟨fun _ _ _ _ => rfl, fun _ _ => rfl⟩
theorem maFr.r {m m' : Nat → Nat → Int32} (f : ∀ i : Nat, i ≠ 125 → m' i = m i) : maFr m m' := ⟨fun i _ h _ => f i h, fun j _ => by rw [f 124 (by decide)]⟩
theorem maFr.tr {m m2 m3 : Nat → Nat → Int32} (a : maFr m m2) (b : maFr m2 m3) : maFr m m3 := ⟨fun i h1 h2 h3 => (b.1 i h1 h2 h3).trans (a.1 i h1 h2 h3), fun j hj => (b.2 j hj).trans (a.2 j hj)⟩
theorem mbFr.ma {m m' : Nat → Nat → Int32} (f : mbFr m m') : maFr m m' := ⟨fun i h1 _ h3 => f.1 i h1 h3, f.2⟩
/-- the plain inner acts -/
def addR (S : HS) (x : Int32) : HS × Int32 := if ¬ (lN 1 ≤ x.toInt64 ∧ x.toInt64 ≤ lN 1048575) then (S, -1) else if S.ord.length = 7 then (S, -3) else (S.add x.toNatClampNeg, nI S.ord.length)
def chgR (S : HS) (k x : Int32) : HS × Int32 := if ¬ (k.toNatClampNeg < S.ord.length ∧ k = nI k.toNatClampNeg) then (S, -1) else if ¬ (lN 1 ≤ x.toInt64 ∧ x.toInt64 ≤ lN 1048575) then (S, -1) else if nI (S.sets.getD k.toNatClampNeg 0) = x then (S, -2) else (S.setW k.toNatClampNeg x.toNatClampNeg, nI (S.sets.getD k.toNatClampNeg 0))
def setR (S : HS) (x : Int32) : HS × Int32 := if ¬ (lN 0 ≤ x.toInt64 ∧ x.toInt64 ≤ lN 1048575) then (S, -1) else if nI S.prior = x then (S, -2) else (S.setP x.toNatClampNeg, nI S.prior)
def tllR (S : HS) (w v : Int32) : HS × Int32 := if ¬ mayP w v then (S, -1) else if nI (figN S w.toNatClampNeg) = v then (S, -2) else (S.setT w.toNatClampNeg v.toNatClampNeg, nI (figN S w.toNatClampNeg))
theorem RwIs.mk {m : Nat → Nat → Int32} {a : Nat} {S : HS} (h1 : S.ord.length ≤ 7) (h2 : S.sets.length = S.ord.length) (h3 : S.ahead.length = S.ord.length) (h4 : m a 0 = nI S.ord.length) (h5 : m a 1 = nI S.prior) (h6 : m a 2 = nI S.span) (h7 : m a 3 = nI S.bound) (h8 : m a 4 = nI S.rule) (h9 : m a 5 = nI S.draw) (h10 : ∀ k, k < S.ord.length → m a (6 + k) = nI (S.ord.getD k 0)) (h11 : ∀ k, k < S.ord.length → m a (13 + k) = nI (S.sets.getD k 0)) (h12 : ∀ k, k < S.ord.length → m a (20 + k) = nI (S.ahead.getD k 0)) : RwIs m a 0 S := ⟨h1, h2, h3, h4, h5, h6, h7, h8, h9, fun k hk => by rw [Nat.zero_add]; exact h10 k hk, fun k hk => by rw [Nat.zero_add]; exact h11 k hk, fun k hk => by rw [Nat.zero_add]; exact h12 k hk⟩
theorem in01 {x : Int32} : (lN 1 ≤ x.toInt64 ∧ x.toInt64 ≤ lN 1048575) ↔ ((lN 0 ≤ x.toInt64 ∧ x.toInt64 ≤ lN 1048575) ∧ ¬ x = 0) := by
  rw [amInL (by decide) (by decide), amInL (by decide) (by decide)]
  constructor
  · rintro ⟨j, h1, h2, rfl⟩
    refine ⟨⟨j, by omega, h2, rfl⟩, fun z => ?_⟩
    have := (amEq0 (n := j) (by omega)).mp z
    omega
  · rintro ⟨⟨j, h1, h2, rfl⟩, h3⟩
    refine ⟨j, ?_, h2, rfl⟩
    have : ¬ j = 0 := fun z => h3 (by subst z; rfl)
    omega
def tX6_adds : amT := fun as h K => match as with
  | [.ref a, .int x] => ∃ S : HS, a = (124 : Nat) ∧ mdSys h S ∧ ∀ m', RwIs m' 125 0 (addR S x).1 → maFr h.2.1 m' → K (some (.int (addR S x).2)) (amSI h m')
  | _ => False
/-! ReadingStagesModel.adds(I)I -/
def kX6_adds : Nat → Bool := fun pc => false
def rX6_adds : List (Nat × amS) := [(1, 1, 0, 0, tX6_isSet), (14, 1, 0, 0, amTget 6 0), (30, 1, 0, 0, amTget 6 0), (40, 1, 0, 0, amTget 6 0), (50, 1, 0, 0, amTget 6 0), (60, 1, 0, 0, amTget 6 0)]
def eX6_adds (ret : Option Value → amH → Nat → Nat → Prop) (F : amX) : Nat → amX := amWp cX6_adds kX6_adds (amLk rX6_adds) (some .int) 0 0 ret F
def sX6_adds (ret : Option Value → amH → Nat → Nat → Prop) (F : amX) : Nat → amX := amWs cX6_adds kX6_adds (amLk rX6_adds) (some .int) 0 0 ret F
theorem wX6_adds_0 {ret F n h} {v0 v2 st x} : eX6_adds ret F (n + 1) 0 [v0, .int x, v2] (st) h 0 0 = (eX6_adds ret F n 1 [v0, .int x, v2] (.int x :: st) h 0 0) := (amWp_dec rfl dX6_adds_0 rfl).trans rfl
theorem uX6_adds_0 {ret F n h} {v0 v2 st x} : sX6_adds ret F n 0 [v0, .int x, v2] (st) h 0 0 = (eX6_adds ret F n 1 [v0, .int x, v2] (.int x :: st) h 0 0) := (amWs_dec dX6_adds_0 rfl).trans rfl
theorem wX6_adds_1 {ret F n h} {v0 v1 v2 x0} : eX6_adds ret F (n + 1) 1 [v0, v1, v2] (.int x0 :: []) h 0 0 = (tX6_isSet [.int x0] h (fun v h => eX6_adds ret F n 4 [v0, v1, v2] (v.toList ++ ([])) h 0 0)) := (amWp_dec rfl dX6_adds_1 rfl).trans (amS4 (Nat.le_of_ble_eq_true rfl) (Nat.le_of_ble_eq_true rfl) (Nat.le_of_ble_eq_true rfl) (Nat.le_of_ble_eq_true rfl))
theorem wX6_adds_4 {ret F n h} {v0 v1 v2 st x} : eX6_adds ret F (n + 1) 4 [v0, v1, v2] (.int x :: st) h 0 0 = ((x = 0 → eX6_adds ret F n 11 [v0, v1, v2] (st) h 0 0) ∧ (¬ x = 0 → eX6_adds ret F n 7 [v0, v1, v2] (st) h 0 0)) := (amWp_dec rfl dX6_adds_4 rfl).trans rfl
theorem wX6_adds_7 {ret F n h} {v0 v2 st x} : eX6_adds ret F (n + 1) 7 [v0, .int x, v2] (st) h 0 0 = (eX6_adds ret F n 8 [v0, .int x, v2] (.int x :: st) h 0 0) := (amWp_dec rfl dX6_adds_7 rfl).trans rfl
theorem wX6_adds_8 {ret F n h} {v0 v1 v2 st x} : eX6_adds ret F (n + 1) 8 [v0, v1, v2] (.int x :: st) h 0 0 = ((¬ x = 0 → eX6_adds ret F n 13 [v0, v1, v2] (st) h 0 0) ∧ (x = 0 → eX6_adds ret F n 11 [v0, v1, v2] (st) h 0 0)) := (amWp_dec rfl dX6_adds_8 rfl).trans rfl
theorem wX6_adds_11 {ret F n h} {v0 v1 v2 st} : eX6_adds ret F (n + 1) 11 [v0, v1, v2] (st) h 0 0 = (eX6_adds ret F n 12 [v0, v1, v2] (.int (-1) :: st) h 0 0) := (amWp_dec rfl dX6_adds_11 rfl).trans rfl
theorem wX6_adds_12 {ret F n h} {v0 v1 v2 x} : eX6_adds ret F (n + 1) 12 [v0, v1, v2] ([.int x]) h 0 0 = (ret (some (.int x)) h 0 0) := (amWp_dec rfl dX6_adds_12 rfl).trans (amTrue ⟨_, rfl, rfl⟩)
theorem wX6_adds_13 {ret F n h} {v0 v1 v2 st} : eX6_adds ret F (n + 1) 13 [v0, v1, v2] (st) h 0 0 = (amIsR v0 ∧ eX6_adds ret F n 14 [v0, v1, v2] (v0 :: st) h 0 0) := (amWp_dec rfl dX6_adds_13 rfl).trans rfl
theorem wX6_adds_14 {ret F n h} {v0 v1 v2 a} : eX6_adds ret F (n + 1) 14 [v0, v1, v2] (.ref a :: []) h 0 0 = (h.1 a = (0, 6) ∧ eX6_adds ret F n 17 [v0, v1, v2] (va_rf (h.2.2.2.1 a 0) :: []) h 0 0) := (amWp_dec rfl dX6_adds_14 rfl).trans (amS4 (Nat.le_of_ble_eq_true rfl) (Nat.le_of_ble_eq_true rfl) (Nat.le_of_ble_eq_true rfl) (Nat.le_of_ble_eq_true rfl))
theorem wX6_adds_17 {ret F n h} {v0 v1 v2 st} : eX6_adds ret F (n + 1) 17 [v0, v1, v2] (st) h 0 0 = (eX6_adds ret F n 18 [v0, v1, v2] (.int (nI 0) :: st) h 0 0) := (amWp_dec rfl dX6_adds_17 rfl).trans rfl
theorem wX6_adds_18 {ret F n h} {v0 v1 v2 st x a} : eX6_adds ret F (n + 1) 18 [v0, v1, v2] (.int x :: .ref a :: st) h 0 0 = ((h.1 a).1 = 1 ∧ vp_in x (h.1 a).2 ∧ eX6_adds ret F n 19 [v0, v1, v2] (.int (h.2.1 a x.toNatClampNeg) :: st) h 0 0) := (amWp_dec rfl dX6_adds_18 rfl).trans rfl
theorem wX6_adds_19 {ret F n h} {v0 v1 v2 st x} : eX6_adds ret F (n + 1) 19 [v0, v1, v2] (.int x :: st) h 0 0 = (eX6_adds ret F n 20 [v0, amClr v1, .int x] (st) h 0 0) := (amWp_dec rfl dX6_adds_19 rfl).trans (amTrue (Nat.le_of_ble_eq_true rfl))
theorem wX6_adds_20 {ret F n h} {v0 v1 st x} : eX6_adds ret F (n + 1) 20 [v0, v1, .int x] (st) h 0 0 = (eX6_adds ret F n 21 [v0, v1, .int x] (.int x :: st) h 0 0) := (amWp_dec rfl dX6_adds_20 rfl).trans rfl
theorem wX6_adds_21 {ret F n h} {v0 v1 v2 st} : eX6_adds ret F (n + 1) 21 [v0, v1, v2] (st) h 0 0 = (eX6_adds ret F n 23 [v0, v1, v2] (.int (nI 7) :: st) h 0 0) := (amWp_dec rfl dX6_adds_21 rfl).trans rfl
theorem wX6_adds_23 {ret F n h} {v0 v1 v2 st y x} : eX6_adds ret F (n + 1) 23 [v0, v1, v2] (.int y :: .int x :: st) h 0 0 = ((¬ x = y → eX6_adds ret F n 29 [v0, v1, v2] (st) h 0 0) ∧ (x = y → eX6_adds ret F n 26 [v0, v1, v2] (st) h 0 0)) := (amWp_dec rfl dX6_adds_23 rfl).trans rfl
theorem wX6_adds_26 {ret F n h} {v0 v1 v2 st} : eX6_adds ret F (n + 1) 26 [v0, v1, v2] (st) h 0 0 = (eX6_adds ret F n 28 [v0, v1, v2] (.int (-3) :: st) h 0 0) := (amWp_dec rfl dX6_adds_26 rfl).trans rfl
theorem wX6_adds_28 {ret F n h} {v0 v1 v2 x} : eX6_adds ret F (n + 1) 28 [v0, v1, v2] ([.int x]) h 0 0 = (ret (some (.int x)) h 0 0) := (amWp_dec rfl dX6_adds_28 rfl).trans (amTrue ⟨_, rfl, rfl⟩)
theorem wX6_adds_29 {ret F n h} {v0 v1 v2 st} : eX6_adds ret F (n + 1) 29 [v0, v1, v2] (st) h 0 0 = (amIsR v0 ∧ eX6_adds ret F n 30 [v0, v1, v2] (v0 :: st) h 0 0) := (amWp_dec rfl dX6_adds_29 rfl).trans rfl
theorem wX6_adds_30 {ret F n h} {v0 v1 v2 a} : eX6_adds ret F (n + 1) 30 [v0, v1, v2] (.ref a :: []) h 0 0 = (h.1 a = (0, 6) ∧ eX6_adds ret F n 33 [v0, v1, v2] (va_rf (h.2.2.2.1 a 0) :: []) h 0 0) := (amWp_dec rfl dX6_adds_30 rfl).trans (amS4 (Nat.le_of_ble_eq_true rfl) (Nat.le_of_ble_eq_true rfl) (Nat.le_of_ble_eq_true rfl) (Nat.le_of_ble_eq_true rfl))
theorem wX6_adds_33 {ret F n h} {v0 v1 v2 st} : eX6_adds ret F (n + 1) 33 [v0, v1, v2] (st) h 0 0 = (eX6_adds ret F n 35 [v0, v1, v2] (.int (nI 6) :: st) h 0 0) := (amWp_dec rfl dX6_adds_33 rfl).trans rfl
theorem wX6_adds_35 {ret F n h} {v0 v1 st x} : eX6_adds ret F (n + 1) 35 [v0, v1, .int x] (st) h 0 0 = (eX6_adds ret F n 36 [v0, v1, .int x] (.int x :: st) h 0 0) := (amWp_dec rfl dX6_adds_35 rfl).trans rfl
theorem wX6_adds_36 {ret F n h} {v0 v1 v2 st y x} : eX6_adds ret F (n + 1) 36 [v0, v1, v2] (.int y :: .int x :: st) h 0 0 = (eX6_adds ret F n 37 [v0, v1, v2] (.int (x + y) :: st) h 0 0) := (amWp_dec rfl dX6_adds_36 rfl).trans rfl
theorem wX6_adds_37 {ret F n h} {v0 v1 st x} : eX6_adds ret F (n + 1) 37 [v0, v1, .int x] (st) h 0 0 = (eX6_adds ret F n 38 [v0, v1, .int x] (.int x :: st) h 0 0) := (amWp_dec rfl dX6_adds_37 rfl).trans rfl
theorem wX6_adds_38 {ret F n h} {v0 v1 v2 st y x a} : eX6_adds ret F (n + 1) 38 [v0, v1, v2] (.int y :: .int x :: .ref a :: st) h 0 0 = ((h.1 a).1 = 1 ∧ vp_in x (h.1 a).2 ∧ amN0 ≤ a ∧ eX6_adds ret F n 39 [v0, v1, v2] (st) (amSI h (amU h.2.1 a x.toNatClampNeg y)) 0 0) := (amWp_dec rfl dX6_adds_38 rfl).trans rfl
theorem wX6_adds_39 {ret F n h} {v0 v1 v2 st} : eX6_adds ret F (n + 1) 39 [v0, v1, v2] (st) h 0 0 = (amIsR v0 ∧ eX6_adds ret F n 40 [v0, v1, v2] (v0 :: st) h 0 0) := (amWp_dec rfl dX6_adds_39 rfl).trans rfl
theorem wX6_adds_40 {ret F n h} {v0 v1 v2 a} : eX6_adds ret F (n + 1) 40 [v0, v1, v2] (.ref a :: []) h 0 0 = (h.1 a = (0, 6) ∧ eX6_adds ret F n 43 [v0, v1, v2] (va_rf (h.2.2.2.1 a 0) :: []) h 0 0) := (amWp_dec rfl dX6_adds_40 rfl).trans (amS4 (Nat.le_of_ble_eq_true rfl) (Nat.le_of_ble_eq_true rfl) (Nat.le_of_ble_eq_true rfl) (Nat.le_of_ble_eq_true rfl))
theorem wX6_adds_43 {ret F n h} {v0 v1 v2 st} : eX6_adds ret F (n + 1) 43 [v0, v1, v2] (st) h 0 0 = (eX6_adds ret F n 45 [v0, v1, v2] (.int (nI 13) :: st) h 0 0) := (amWp_dec rfl dX6_adds_43 rfl).trans rfl
theorem wX6_adds_45 {ret F n h} {v0 v1 st x} : eX6_adds ret F (n + 1) 45 [v0, v1, .int x] (st) h 0 0 = (eX6_adds ret F n 46 [v0, v1, .int x] (.int x :: st) h 0 0) := (amWp_dec rfl dX6_adds_45 rfl).trans rfl
theorem wX6_adds_46 {ret F n h} {v0 v1 v2 st y x} : eX6_adds ret F (n + 1) 46 [v0, v1, v2] (.int y :: .int x :: st) h 0 0 = (eX6_adds ret F n 47 [v0, v1, v2] (.int (x + y) :: st) h 0 0) := (amWp_dec rfl dX6_adds_46 rfl).trans rfl
theorem wX6_adds_47 {ret F n h} {v0 v2 st x} : eX6_adds ret F (n + 1) 47 [v0, .int x, v2] (st) h 0 0 = (eX6_adds ret F n 48 [v0, .int x, v2] (.int x :: st) h 0 0) := (amWp_dec rfl dX6_adds_47 rfl).trans rfl
theorem wX6_adds_48 {ret F n h} {v0 v1 v2 st y x a} : eX6_adds ret F (n + 1) 48 [v0, v1, v2] (.int y :: .int x :: .ref a :: st) h 0 0 = ((h.1 a).1 = 1 ∧ vp_in x (h.1 a).2 ∧ amN0 ≤ a ∧ eX6_adds ret F n 49 [v0, v1, v2] (st) (amSI h (amU h.2.1 a x.toNatClampNeg y)) 0 0) := (amWp_dec rfl dX6_adds_48 rfl).trans rfl
theorem wX6_adds_49 {ret F n h} {v0 v1 v2 st} : eX6_adds ret F (n + 1) 49 [v0, v1, v2] (st) h 0 0 = (amIsR v0 ∧ eX6_adds ret F n 50 [v0, v1, v2] (v0 :: st) h 0 0) := (amWp_dec rfl dX6_adds_49 rfl).trans rfl
theorem wX6_adds_50 {ret F n h} {v0 v1 v2 a} : eX6_adds ret F (n + 1) 50 [v0, v1, v2] (.ref a :: []) h 0 0 = (h.1 a = (0, 6) ∧ eX6_adds ret F n 53 [v0, v1, v2] (va_rf (h.2.2.2.1 a 0) :: []) h 0 0) := (amWp_dec rfl dX6_adds_50 rfl).trans (amS4 (Nat.le_of_ble_eq_true rfl) (Nat.le_of_ble_eq_true rfl) (Nat.le_of_ble_eq_true rfl) (Nat.le_of_ble_eq_true rfl))
theorem wX6_adds_53 {ret F n h} {v0 v1 v2 st} : eX6_adds ret F (n + 1) 53 [v0, v1, v2] (st) h 0 0 = (eX6_adds ret F n 55 [v0, v1, v2] (.int (nI 20) :: st) h 0 0) := (amWp_dec rfl dX6_adds_53 rfl).trans rfl
theorem wX6_adds_55 {ret F n h} {v0 v1 st x} : eX6_adds ret F (n + 1) 55 [v0, v1, .int x] (st) h 0 0 = (eX6_adds ret F n 56 [v0, v1, .int x] (.int x :: st) h 0 0) := (amWp_dec rfl dX6_adds_55 rfl).trans rfl
theorem wX6_adds_56 {ret F n h} {v0 v1 v2 st y x} : eX6_adds ret F (n + 1) 56 [v0, v1, v2] (.int y :: .int x :: st) h 0 0 = (eX6_adds ret F n 57 [v0, v1, v2] (.int (x + y) :: st) h 0 0) := (amWp_dec rfl dX6_adds_56 rfl).trans rfl
theorem wX6_adds_57 {ret F n h} {v0 v1 v2 st} : eX6_adds ret F (n + 1) 57 [v0, v1, v2] (st) h 0 0 = (eX6_adds ret F n 58 [v0, v1, v2] (.int (nI 0) :: st) h 0 0) := (amWp_dec rfl dX6_adds_57 rfl).trans rfl
theorem wX6_adds_58 {ret F n h} {v0 v1 v2 st y x a} : eX6_adds ret F (n + 1) 58 [v0, v1, v2] (.int y :: .int x :: .ref a :: st) h 0 0 = ((h.1 a).1 = 1 ∧ vp_in x (h.1 a).2 ∧ amN0 ≤ a ∧ eX6_adds ret F n 59 [v0, v1, v2] (st) (amSI h (amU h.2.1 a x.toNatClampNeg y)) 0 0) := (amWp_dec rfl dX6_adds_58 rfl).trans rfl
theorem wX6_adds_59 {ret F n h} {v0 v1 v2 st} : eX6_adds ret F (n + 1) 59 [v0, v1, v2] (st) h 0 0 = (amIsR v0 ∧ eX6_adds ret F n 60 [v0, v1, v2] (v0 :: st) h 0 0) := (amWp_dec rfl dX6_adds_59 rfl).trans rfl
theorem wX6_adds_60 {ret F n h} {v0 v1 v2 a} : eX6_adds ret F (n + 1) 60 [v0, v1, v2] (.ref a :: []) h 0 0 = (h.1 a = (0, 6) ∧ eX6_adds ret F n 63 [v0, v1, v2] (va_rf (h.2.2.2.1 a 0) :: []) h 0 0) := (amWp_dec rfl dX6_adds_60 rfl).trans (amS4 (Nat.le_of_ble_eq_true rfl) (Nat.le_of_ble_eq_true rfl) (Nat.le_of_ble_eq_true rfl) (Nat.le_of_ble_eq_true rfl))
theorem wX6_adds_63 {ret F n h} {v0 v1 v2 st} : eX6_adds ret F (n + 1) 63 [v0, v1, v2] (st) h 0 0 = (eX6_adds ret F n 64 [v0, v1, v2] (.int (nI 0) :: st) h 0 0) := (amWp_dec rfl dX6_adds_63 rfl).trans rfl
theorem wX6_adds_64 {ret F n h} {v0 v1 v2 st x a} : eX6_adds ret F (n + 1) 64 [v0, v1, v2] (.int x :: .ref a :: st) h 0 0 = (eX6_adds ret F n 65 [v0, v1, v2] (.int x :: .ref a :: .int x :: .ref a :: st) h 0 0) := (amWp_dec rfl dX6_adds_64 rfl).trans (amS2 rfl rfl)
theorem wX6_adds_65 {ret F n h} {v0 v1 v2 st x a} : eX6_adds ret F (n + 1) 65 [v0, v1, v2] (.int x :: .ref a :: st) h 0 0 = ((h.1 a).1 = 1 ∧ vp_in x (h.1 a).2 ∧ eX6_adds ret F n 66 [v0, v1, v2] (.int (h.2.1 a x.toNatClampNeg) :: st) h 0 0) := (amWp_dec rfl dX6_adds_65 rfl).trans rfl
theorem wX6_adds_66 {ret F n h} {v0 v1 v2 st} : eX6_adds ret F (n + 1) 66 [v0, v1, v2] (st) h 0 0 = (eX6_adds ret F n 67 [v0, v1, v2] (.int (nI 1) :: st) h 0 0) := (amWp_dec rfl dX6_adds_66 rfl).trans rfl
theorem wX6_adds_67 {ret F n h} {v0 v1 v2 st y x} : eX6_adds ret F (n + 1) 67 [v0, v1, v2] (.int y :: .int x :: st) h 0 0 = (eX6_adds ret F n 68 [v0, v1, v2] (.int (x + y) :: st) h 0 0) := (amWp_dec rfl dX6_adds_67 rfl).trans rfl
theorem wX6_adds_68 {ret F n h} {v0 v1 v2 st y x a} : eX6_adds ret F (n + 1) 68 [v0, v1, v2] (.int y :: .int x :: .ref a :: st) h 0 0 = ((h.1 a).1 = 1 ∧ vp_in x (h.1 a).2 ∧ amN0 ≤ a ∧ eX6_adds ret F n 69 [v0, v1, v2] (st) (amSI h (amU h.2.1 a x.toNatClampNeg y)) 0 0) := (amWp_dec rfl dX6_adds_68 rfl).trans rfl
theorem wX6_adds_69 {ret F n h} {v0 v1 st x} : eX6_adds ret F (n + 1) 69 [v0, v1, .int x] (st) h 0 0 = (eX6_adds ret F n 70 [v0, v1, .int x] (.int x :: st) h 0 0) := (amWp_dec rfl dX6_adds_69 rfl).trans rfl
theorem wX6_adds_70 {ret F n h} {v0 v1 v2 x} : eX6_adds ret F (n + 1) 70 [v0, v1, v2] ([.int x]) h 0 0 = (ret (some (.int x)) h 0 0) := (amWp_dec rfl dX6_adds_70 rfl).trans (amTrue ⟨_, rfl, rfl⟩)
theorem evX6_adds (l : Launch) (G : amG) : ∀ pc S i sz, amLk rX6_adds pc = some S → decode cX6_adds pc = .ok (i, sz) → amSiteP pc G l yX6_adds.cls yX6_adds.name yX6_adds.desc (amRm 3 0 0) i sz S.1 S.2.1 S.2.2.1 S.2.2.2 := amLk_ok (by
  refine List.forall_mem_cons.mpr ⟨⟨_, _, dX6_adds_1, amSite.P (amSiteS (metX6_isSet l G) rfl (by decide) (by decide) (lw_S q1517 q1518 q94 q1519) ⟨by decide +kernel, by decide +kernel, by decide +kernel⟩)⟩, ?_⟩
  refine List.forall_mem_cons.mpr ⟨⟨_, _, dX6_adds_14, amSite.P (amSiteGet ⟨_, rfl, by decide, Or.inl q1295⟩)⟩, ?_⟩
  refine List.forall_mem_cons.mpr ⟨⟨_, _, dX6_adds_30, amSite.P (amSiteGet ⟨_, rfl, by decide, Or.inl q1295⟩)⟩, ?_⟩
  refine List.forall_mem_cons.mpr ⟨⟨_, _, dX6_adds_40, amSite.P (amSiteGet ⟨_, rfl, by decide, Or.inl q1295⟩)⟩, ?_⟩
  refine List.forall_mem_cons.mpr ⟨⟨_, _, dX6_adds_50, amSite.P (amSiteGet ⟨_, rfl, by decide, Or.inl q1295⟩)⟩, ?_⟩
  refine List.forall_mem_cons.mpr ⟨⟨_, _, dX6_adds_60, amSite.P (amSiteGet ⟨_, rfl, by decide, Or.inl q1295⟩)⟩, ?_⟩
  exact fun _ h => absurd h List.not_mem_nil)
theorem goX6_adds {ret F} (hF : amCld cX6_adds kX6_adds (amLk rX6_adds) (some .int) 0 0 ret F) (n : Nat) {pc ls st h k z} (q : sX6_adds ret F n pc ls st h k z) : F pc ls st h k z := hF.1 n pc ls st h k z q
theorem metX6_adds (l : Launch) (G : amG) : amMet l G yX6_adds (ws_ yX6_adds cX6_adds 3 (some .int)) 3 0 0 tX6_adds := by
  refine amMet_of (cut := kX6_adds) (by decide +kernel) (evX6_adds l G) ?_
  intro as h K hT
  match as, hT with
  | [.ref a, .int x], ⟨S, e, hA, hK⟩ =>
  refine ⟨Nat.le_of_ble_eq_true rfl, fun F hF => ?_⟩
  show F 0 [.ref a, .int x, .retAddr 0] [] h 0 0
  obtain ⟨a, rfl⟩ : ∃ i : Nat, i = a := ⟨_, rfl⟩
  subst e
  have hR := hA.1
  have hS := hA.2.1
  have n7 := hS.n7
  have hn : h.2.1 125 0 = nI S.ord.length := hS.n
  have key0 : ∀ c, addR S x = (S, c) → amRet 0 0 K (some (.int c)) h 0 0 := fun c e => by
    have key := hK h.2.1
    rw [e] at key
    exact amRet.of (by decide) (by decide) (key hS (maFr.rf _))
  by_cases q : lN 1 ≤ x.toInt64 ∧ x.toInt64 ≤ lN 1048575
  · obtain ⟨q1, q2⟩ := in01.mp q
    by_cases q7 : S.ord.length = 7
    · have := key0 (-3) (by rw [addR, if_neg (fun z => z q), if_pos q7])
      rw [q7] at hn
      refine goX6_adds hF 60 ?_
      simp (disch := omega) only [wX6_adds_0, uX6_adds_0, wX6_adds_1, wX6_adds_4, wX6_adds_7, wX6_adds_8, wX6_adds_11, wX6_adds_12, wX6_adds_13, wX6_adds_14, wX6_adds_17, wX6_adds_18, wX6_adds_19, wX6_adds_20, wX6_adds_21, wX6_adds_23, wX6_adds_26, wX6_adds_28, wX6_adds_29, wX6_adds_30, wX6_adds_33, wX6_adds_35, wX6_adds_36, wX6_adds_37, wX6_adds_38, wX6_adds_39, wX6_adds_40, wX6_adds_43, wX6_adds_45, wX6_adds_46, wX6_adds_47, wX6_adds_48, wX6_adds_49, wX6_adds_50, wX6_adds_53, wX6_adds_55, wX6_adds_56, wX6_adds_57, wX6_adds_58, wX6_adds_59, wX6_adds_60, wX6_adds_63, wX6_adds_64, wX6_adds_65, wX6_adds_66, wX6_adds_67, wX6_adds_68, wX6_adds_69, wX6_adds_70, amSI_1, amSI_2, amSI_3, amSI_s, amU_at, amIsR_ref, amIsR_null, amIsR_rf, amRf_some, amRf_none, amClr_int, amClr_ref, amClr_null, amClr_long, amClr_ra, amClr_rf, amFit_int, amFit_oref, amFit_aref, amFit_onull, amFit_anull, amOptSome, amOptNone, List.cons_append, List.nil_append, true_and, and_true, true_implies, not_true_eq_false, not_false_eq_true, false_implies, and_self, Nat.add_zero, Nat.zero_add, ne_eq, Prod.mk.injEq, amC01_0, amC01_1, amC01_nb, amNb0, amNb1, amTcpI_d, Nat.reduceLeDiff, Nat.reduceAdd, Nat.reduceSub, Nat.reduceEqDiff, Nat.le_refl, amN0le, hR.s, hR.r, amLeI, amLtI, amEqI, amLe0, amGt0, amEq0, amNotPosI, amGe0, amVI, amCl_nI, amAdd, amSub, amMul, tX6_isSet_d, hn, q1, q2]
      exact this
    · have q7' : (S.ord.length = 7) = False := eq_false q7
      have e : addR S x = (S.add x.toNatClampNeg, nI S.ord.length) := by rw [addR, if_neg (fun z => z q), if_neg q7]
      obtain ⟨v, v1, v2, rfl⟩ := (amInL (by decide) (by decide)).mp q
      rw [e, amCl_nI (by omega)] at hK
      refine goX6_adds hF 60 ?_
      simp (disch := omega) only [wX6_adds_0, uX6_adds_0, wX6_adds_1, wX6_adds_4, wX6_adds_7, wX6_adds_8, wX6_adds_11, wX6_adds_12, wX6_adds_13, wX6_adds_14, wX6_adds_17, wX6_adds_18, wX6_adds_19, wX6_adds_20, wX6_adds_21, wX6_adds_23, wX6_adds_26, wX6_adds_28, wX6_adds_29, wX6_adds_30, wX6_adds_33, wX6_adds_35, wX6_adds_36, wX6_adds_37, wX6_adds_38, wX6_adds_39, wX6_adds_40, wX6_adds_43, wX6_adds_45, wX6_adds_46, wX6_adds_47, wX6_adds_48, wX6_adds_49, wX6_adds_50, wX6_adds_53, wX6_adds_55, wX6_adds_56, wX6_adds_57, wX6_adds_58, wX6_adds_59, wX6_adds_60, wX6_adds_63, wX6_adds_64, wX6_adds_65, wX6_adds_66, wX6_adds_67, wX6_adds_68, wX6_adds_69, wX6_adds_70, amSI_1, amSI_2, amSI_3, amSI_s, amU_at, amIsR_ref, amIsR_null, amIsR_rf, amRf_some, amRf_none, amClr_int, amClr_ref, amClr_null, amClr_long, amClr_ra, amClr_rf, amFit_int, amFit_oref, amFit_aref, amFit_onull, amFit_anull, amOptSome, amOptNone, List.cons_append, List.nil_append, true_and, and_true, true_implies, not_true_eq_false, not_false_eq_true, false_implies, and_self, Nat.add_zero, Nat.zero_add, ne_eq, Prod.mk.injEq, amC01_0, amC01_1, amC01_nb, amNb0, amNb1, amTcpI_d, Nat.reduceLeDiff, Nat.reduceAdd, Nat.reduceSub, Nat.reduceEqDiff, Nat.le_refl, amN0le, hR.s, hR.r, amLeI, amLtI, amEqI, amLe0, amGt0, amEq0, amNotPosI, amGe0, amVI, amCl_nI, amAdd, amSub, amMul, tX6_isSet_d, hn, q1, q2, q7', amU_nj]
      have la : (S.add v).ord.length = S.ord.length + 1 := by show (S.ord ++ [_]).length = _; simp
      refine amRet.of (by decide) (by decide) (hK _ (RwIs.mk ?_ ?_ ?_ ?_ ?_ ?_ ?_ ?_ ?_ (fun k hk => ?_) (fun k hk => ?_) (fun k hk => ?_)) (maFr.r (fun i hi => ?_)))
      · rw [la]; omega
      · rw [la]; show (S.sets ++ [_]).length = _; simp [hS.ls]
      · rw [la]; show (S.ahead ++ [_]).length = _; simp [hS.la]
      · rw [la]
        simp (disch := omega) only [amU_at, amU_ne, amU_nj, amU_neR, up_ne, up_at, amSI_2]
      · simp (disch := omega) only [amU_at, amU_ne, amU_nj, amU_neR, up_ne, up_at, amSI_2]
        exact hS.prior
      · simp (disch := omega) only [amU_at, amU_ne, amU_nj, amU_neR, up_ne, up_at, amSI_2]
        exact hS.span
      · simp (disch := omega) only [amU_at, amU_ne, amU_nj, amU_neR, up_ne, up_at, amSI_2]
        exact hS.bound
      · simp (disch := omega) only [amU_at, amU_ne, amU_nj, amU_neR, up_ne, up_at, amSI_2]
        exact hS.rule
      · simp (disch := omega) only [amU_at, amU_ne, amU_nj, amU_neR, up_ne, up_at, amSI_2]
        exact hS.draw
      · rw [la] at hk
        show _ = nI ((S.ord ++ [S.ord.length]).getD k 0)
        rw [app_getD]
        by_cases y : k < S.ord.length
        · rw [if_pos y]
          simp (disch := omega) only [amU_at, amU_ne, amU_nj, amU_neR, up_ne, up_at, amSI_2]
          exact hS.o0 k y
        · have : k = S.ord.length := by omega
          subst this
          rw [if_neg y, if_pos rfl]
          simp (disch := omega) only [amU_at, amU_ne, amU_nj, amU_neR, up_ne, up_at, amSI_2]
      · rw [la] at hk
        show _ = nI ((S.sets ++ [v]).getD k 0)
        rw [app_getD, hS.ls]
        by_cases y : k < S.ord.length
        · rw [if_pos y]
          simp (disch := omega) only [amU_at, amU_ne, amU_nj, amU_neR, up_ne, up_at, amSI_2]
          exact hS.s0 k y
        · have : k = S.ord.length := by omega
          subst this
          rw [if_neg y, if_pos rfl]
          simp (disch := omega) only [amU_at, amU_ne, amU_nj, amU_neR, up_ne, up_at, amSI_2]
      · rw [la] at hk
        show _ = nI ((S.ahead ++ [0]).getD k 0)
        rw [app_getD, hS.la]
        by_cases y : k < S.ord.length
        · rw [if_pos y]
          simp (disch := omega) only [amU_at, amU_ne, amU_nj, amU_neR, up_ne, up_at, amSI_2]
          exact hS.a0 k y
        · have : k = S.ord.length := by omega
          subst this
          rw [if_neg y, if_pos rfl]
          simp (disch := omega) only [amU_at, amU_ne, amU_nj, amU_neR, up_ne, up_at, amSI_2]
      · simp (disch := omega) only [amU_at, amU_ne, amU_nj, amU_neR, up_ne, up_at, amSI_2]
  · have := key0 (-1) (by rw [addR, if_pos q])
    by_cases q1 : lN 0 ≤ x.toInt64 ∧ x.toInt64 ≤ lN 1048575
    · have q2 : x = 0 := Classical.byContradiction (fun z => q (in01.mpr ⟨q1, z⟩))
      have q3 : (x = 0) = True := eq_true q2
      refine goX6_adds hF 60 ?_
      simp (disch := omega) only [wX6_adds_0, uX6_adds_0, wX6_adds_1, wX6_adds_4, wX6_adds_7, wX6_adds_8, wX6_adds_11, wX6_adds_12, wX6_adds_13, wX6_adds_14, wX6_adds_17, wX6_adds_18, wX6_adds_19, wX6_adds_20, wX6_adds_21, wX6_adds_23, wX6_adds_26, wX6_adds_28, wX6_adds_29, wX6_adds_30, wX6_adds_33, wX6_adds_35, wX6_adds_36, wX6_adds_37, wX6_adds_38, wX6_adds_39, wX6_adds_40, wX6_adds_43, wX6_adds_45, wX6_adds_46, wX6_adds_47, wX6_adds_48, wX6_adds_49, wX6_adds_50, wX6_adds_53, wX6_adds_55, wX6_adds_56, wX6_adds_57, wX6_adds_58, wX6_adds_59, wX6_adds_60, wX6_adds_63, wX6_adds_64, wX6_adds_65, wX6_adds_66, wX6_adds_67, wX6_adds_68, wX6_adds_69, wX6_adds_70, amSI_1, amSI_2, amSI_3, amSI_s, amU_at, amIsR_ref, amIsR_null, amIsR_rf, amRf_some, amRf_none, amClr_int, amClr_ref, amClr_null, amClr_long, amClr_ra, amClr_rf, amFit_int, amFit_oref, amFit_aref, amFit_onull, amFit_anull, amOptSome, amOptNone, List.cons_append, List.nil_append, true_and, and_true, true_implies, not_true_eq_false, not_false_eq_true, false_implies, and_self, Nat.add_zero, Nat.zero_add, ne_eq, Prod.mk.injEq, amC01_0, amC01_1, amC01_nb, amNb0, amNb1, amTcpI_d, Nat.reduceLeDiff, Nat.reduceAdd, Nat.reduceSub, Nat.reduceEqDiff, Nat.le_refl, amN0le, hR.s, hR.r, amLeI, amLtI, amEqI, amLe0, amGt0, amEq0, amNotPosI, amGe0, amVI, amCl_nI, amAdd, amSub, amMul, tX6_isSet_d, hn, q1, q3]
      exact this
    · refine goX6_adds hF 60 ?_
      simp (disch := omega) only [wX6_adds_0, uX6_adds_0, wX6_adds_1, wX6_adds_4, wX6_adds_7, wX6_adds_8, wX6_adds_11, wX6_adds_12, wX6_adds_13, wX6_adds_14, wX6_adds_17, wX6_adds_18, wX6_adds_19, wX6_adds_20, wX6_adds_21, wX6_adds_23, wX6_adds_26, wX6_adds_28, wX6_adds_29, wX6_adds_30, wX6_adds_33, wX6_adds_35, wX6_adds_36, wX6_adds_37, wX6_adds_38, wX6_adds_39, wX6_adds_40, wX6_adds_43, wX6_adds_45, wX6_adds_46, wX6_adds_47, wX6_adds_48, wX6_adds_49, wX6_adds_50, wX6_adds_53, wX6_adds_55, wX6_adds_56, wX6_adds_57, wX6_adds_58, wX6_adds_59, wX6_adds_60, wX6_adds_63, wX6_adds_64, wX6_adds_65, wX6_adds_66, wX6_adds_67, wX6_adds_68, wX6_adds_69, wX6_adds_70, amSI_1, amSI_2, amSI_3, amSI_s, amU_at, amIsR_ref, amIsR_null, amIsR_rf, amRf_some, amRf_none, amClr_int, amClr_ref, amClr_null, amClr_long, amClr_ra, amClr_rf, amFit_int, amFit_oref, amFit_aref, amFit_onull, amFit_anull, amOptSome, amOptNone, List.cons_append, List.nil_append, true_and, and_true, true_implies, not_true_eq_false, not_false_eq_true, false_implies, and_self, Nat.add_zero, Nat.zero_add, ne_eq, Prod.mk.injEq, amC01_0, amC01_1, amC01_nb, amNb0, amNb1, amTcpI_d, Nat.reduceLeDiff, Nat.reduceAdd, Nat.reduceSub, Nat.reduceEqDiff, Nat.le_refl, amN0le, hR.s, hR.r, amLeI, amLtI, amEqI, amLe0, amGt0, amEq0, amNotPosI, amGe0, amVI, amCl_nI, amAdd, amSub, amMul, tX6_isSet_d, hn, q1]
      exact this
theorem tX6_adds_d {a : Nat} {x : Int32} {h : amH} {K : Option Value → amH → Prop} : tX6_adds [.ref a, .int x] h K = ∃ S : HS, a = (124 : Nat) ∧ mdSys h S ∧ ∀ m', RwIs m' 125 0 (addR S x).1 → maFr h.2.1 m' → K (some (.int (addR S x).2)) (amSI h m') := rfl
def tX6_changes : amT := fun as h K => match as with
  | [.ref a, .int k0, .int x] => ∃ S : HS, a = (124 : Nat) ∧ mdSys h S ∧ ∀ m', RwIs m' 125 0 (chgR S k0 x).1 → maFr h.2.1 m' → K (some (.int (chgR S k0 x).2)) (amSI h m')
  | _ => False
/-! ReadingStagesModel.changes(II)I -/
def kX6_changes : Nat → Bool := fun pc => false
def rX6_changes : List (Nat × amS) := [(2, 2, 0, 0, (amRecv 6 tX6_isBook)), (9, 1, 0, 0, tX6_isSet), (22, 1, 0, 0, amTget 6 0), (40, 1, 0, 0, amTget 6 0)]
def eX6_changes (ret : Option Value → amH → Nat → Nat → Prop) (F : amX) : Nat → amX := amWp cX6_changes kX6_changes (amLk rX6_changes) (some .int) 0 0 ret F
def sX6_changes (ret : Option Value → amH → Nat → Nat → Prop) (F : amX) : Nat → amX := amWs cX6_changes kX6_changes (amLk rX6_changes) (some .int) 0 0 ret F
theorem wX6_changes_0 {ret F n h} {v0 v1 v2 v3 st} : eX6_changes ret F (n + 1) 0 [v0, v1, v2, v3] (st) h 0 0 = (amIsR v0 ∧ eX6_changes ret F n 1 [v0, v1, v2, v3] (v0 :: st) h 0 0) := (amWp_dec rfl dX6_changes_0 rfl).trans rfl
theorem uX6_changes_0 {ret F n h} {v0 v1 v2 v3 st} : sX6_changes ret F n 0 [v0, v1, v2, v3] (st) h 0 0 = (amIsR v0 ∧ eX6_changes ret F n 1 [v0, v1, v2, v3] (v0 :: st) h 0 0) := (amWs_dec dX6_changes_0 rfl).trans rfl
theorem wX6_changes_1 {ret F n h} {v0 v2 v3 st x} : eX6_changes ret F (n + 1) 1 [v0, .int x, v2, v3] (st) h 0 0 = (eX6_changes ret F n 2 [v0, .int x, v2, v3] (.int x :: st) h 0 0) := (amWp_dec rfl dX6_changes_1 rfl).trans rfl
theorem wX6_changes_2 {ret F n h} {v0 v1 v2 v3 x1 x0} : eX6_changes ret F (n + 1) 2 [v0, v1, v2, v3] (.int x1 :: .ref x0 :: []) h 0 0 = (h.1 x0 = (0, 6) ∧ tX6_isBook [.ref x0, .int x1] h (fun v h => eX6_changes ret F n 5 [v0, v1, v2, v3] (v.toList ++ ([])) h 0 0)) := (amWp_dec rfl dX6_changes_2 rfl).trans (amS4 (Nat.le_of_ble_eq_true rfl) (Nat.le_of_ble_eq_true rfl) (Nat.le_of_ble_eq_true rfl) (Nat.le_of_ble_eq_true rfl))
theorem wX6_changes_5 {ret F n h} {v0 v1 v2 v3 st x} : eX6_changes ret F (n + 1) 5 [v0, v1, v2, v3] (.int x :: st) h 0 0 = ((x = 0 → eX6_changes ret F n 19 [v0, v1, v2, v3] (st) h 0 0) ∧ (¬ x = 0 → eX6_changes ret F n 8 [v0, v1, v2, v3] (st) h 0 0)) := (amWp_dec rfl dX6_changes_5 rfl).trans rfl
theorem wX6_changes_8 {ret F n h} {v0 v1 v3 st x} : eX6_changes ret F (n + 1) 8 [v0, v1, .int x, v3] (st) h 0 0 = (eX6_changes ret F n 9 [v0, v1, .int x, v3] (.int x :: st) h 0 0) := (amWp_dec rfl dX6_changes_8 rfl).trans rfl
theorem wX6_changes_9 {ret F n h} {v0 v1 v2 v3 x0} : eX6_changes ret F (n + 1) 9 [v0, v1, v2, v3] (.int x0 :: []) h 0 0 = (tX6_isSet [.int x0] h (fun v h => eX6_changes ret F n 12 [v0, v1, v2, v3] (v.toList ++ ([])) h 0 0)) := (amWp_dec rfl dX6_changes_9 rfl).trans (amS4 (Nat.le_of_ble_eq_true rfl) (Nat.le_of_ble_eq_true rfl) (Nat.le_of_ble_eq_true rfl) (Nat.le_of_ble_eq_true rfl))
theorem wX6_changes_12 {ret F n h} {v0 v1 v2 v3 st x} : eX6_changes ret F (n + 1) 12 [v0, v1, v2, v3] (.int x :: st) h 0 0 = ((x = 0 → eX6_changes ret F n 19 [v0, v1, v2, v3] (st) h 0 0) ∧ (¬ x = 0 → eX6_changes ret F n 15 [v0, v1, v2, v3] (st) h 0 0)) := (amWp_dec rfl dX6_changes_12 rfl).trans rfl
theorem wX6_changes_15 {ret F n h} {v0 v1 v3 st x} : eX6_changes ret F (n + 1) 15 [v0, v1, .int x, v3] (st) h 0 0 = (eX6_changes ret F n 16 [v0, v1, .int x, v3] (.int x :: st) h 0 0) := (amWp_dec rfl dX6_changes_15 rfl).trans rfl
theorem wX6_changes_16 {ret F n h} {v0 v1 v2 v3 st x} : eX6_changes ret F (n + 1) 16 [v0, v1, v2, v3] (.int x :: st) h 0 0 = ((¬ x = 0 → eX6_changes ret F n 21 [v0, v1, v2, v3] (st) h 0 0) ∧ (x = 0 → eX6_changes ret F n 19 [v0, v1, v2, v3] (st) h 0 0)) := (amWp_dec rfl dX6_changes_16 rfl).trans rfl
theorem wX6_changes_19 {ret F n h} {v0 v1 v2 v3 st} : eX6_changes ret F (n + 1) 19 [v0, v1, v2, v3] (st) h 0 0 = (eX6_changes ret F n 20 [v0, v1, v2, v3] (.int (-1) :: st) h 0 0) := (amWp_dec rfl dX6_changes_19 rfl).trans rfl
theorem wX6_changes_20 {ret F n h} {v0 v1 v2 v3 x} : eX6_changes ret F (n + 1) 20 [v0, v1, v2, v3] ([.int x]) h 0 0 = (ret (some (.int x)) h 0 0) := (amWp_dec rfl dX6_changes_20 rfl).trans (amTrue ⟨_, rfl, rfl⟩)
theorem wX6_changes_21 {ret F n h} {v0 v1 v2 v3 st} : eX6_changes ret F (n + 1) 21 [v0, v1, v2, v3] (st) h 0 0 = (amIsR v0 ∧ eX6_changes ret F n 22 [v0, v1, v2, v3] (v0 :: st) h 0 0) := (amWp_dec rfl dX6_changes_21 rfl).trans rfl
theorem wX6_changes_22 {ret F n h} {v0 v1 v2 v3 a} : eX6_changes ret F (n + 1) 22 [v0, v1, v2, v3] (.ref a :: []) h 0 0 = (h.1 a = (0, 6) ∧ eX6_changes ret F n 25 [v0, v1, v2, v3] (va_rf (h.2.2.2.1 a 0) :: []) h 0 0) := (amWp_dec rfl dX6_changes_22 rfl).trans (amS4 (Nat.le_of_ble_eq_true rfl) (Nat.le_of_ble_eq_true rfl) (Nat.le_of_ble_eq_true rfl) (Nat.le_of_ble_eq_true rfl))
theorem wX6_changes_25 {ret F n h} {v0 v1 v2 v3 st} : eX6_changes ret F (n + 1) 25 [v0, v1, v2, v3] (st) h 0 0 = (eX6_changes ret F n 27 [v0, v1, v2, v3] (.int (nI 13) :: st) h 0 0) := (amWp_dec rfl dX6_changes_25 rfl).trans rfl
theorem wX6_changes_27 {ret F n h} {v0 v2 v3 st x} : eX6_changes ret F (n + 1) 27 [v0, .int x, v2, v3] (st) h 0 0 = (eX6_changes ret F n 28 [v0, .int x, v2, v3] (.int x :: st) h 0 0) := (amWp_dec rfl dX6_changes_27 rfl).trans rfl
theorem wX6_changes_28 {ret F n h} {v0 v1 v2 v3 st y x} : eX6_changes ret F (n + 1) 28 [v0, v1, v2, v3] (.int y :: .int x :: st) h 0 0 = (eX6_changes ret F n 29 [v0, v1, v2, v3] (.int (x + y) :: st) h 0 0) := (amWp_dec rfl dX6_changes_28 rfl).trans rfl
theorem wX6_changes_29 {ret F n h} {v0 v1 v2 v3 st x a} : eX6_changes ret F (n + 1) 29 [v0, v1, v2, v3] (.int x :: .ref a :: st) h 0 0 = ((h.1 a).1 = 1 ∧ vp_in x (h.1 a).2 ∧ eX6_changes ret F n 30 [v0, v1, v2, v3] (.int (h.2.1 a x.toNatClampNeg) :: st) h 0 0) := (amWp_dec rfl dX6_changes_29 rfl).trans rfl
theorem wX6_changes_30 {ret F n h} {v0 v1 v2 v3 st x} : eX6_changes ret F (n + 1) 30 [v0, v1, v2, v3] (.int x :: st) h 0 0 = (eX6_changes ret F n 31 [v0, v1, amClr v2, .int x] (st) h 0 0) := (amWp_dec rfl dX6_changes_30 rfl).trans (amTrue (Nat.le_of_ble_eq_true rfl))
theorem wX6_changes_31 {ret F n h} {v0 v1 v2 st x} : eX6_changes ret F (n + 1) 31 [v0, v1, v2, .int x] (st) h 0 0 = (eX6_changes ret F n 32 [v0, v1, v2, .int x] (.int x :: st) h 0 0) := (amWp_dec rfl dX6_changes_31 rfl).trans rfl
theorem wX6_changes_32 {ret F n h} {v0 v1 v3 st x} : eX6_changes ret F (n + 1) 32 [v0, v1, .int x, v3] (st) h 0 0 = (eX6_changes ret F n 33 [v0, v1, .int x, v3] (.int x :: st) h 0 0) := (amWp_dec rfl dX6_changes_32 rfl).trans rfl
theorem wX6_changes_33 {ret F n h} {v0 v1 v2 v3 st y x} : eX6_changes ret F (n + 1) 33 [v0, v1, v2, v3] (.int y :: .int x :: st) h 0 0 = ((¬ x = y → eX6_changes ret F n 39 [v0, v1, v2, v3] (st) h 0 0) ∧ (x = y → eX6_changes ret F n 36 [v0, v1, v2, v3] (st) h 0 0)) := (amWp_dec rfl dX6_changes_33 rfl).trans rfl
theorem wX6_changes_36 {ret F n h} {v0 v1 v2 v3 st} : eX6_changes ret F (n + 1) 36 [v0, v1, v2, v3] (st) h 0 0 = (eX6_changes ret F n 38 [v0, v1, v2, v3] (.int (-2) :: st) h 0 0) := (amWp_dec rfl dX6_changes_36 rfl).trans rfl
theorem wX6_changes_38 {ret F n h} {v0 v1 v2 v3 x} : eX6_changes ret F (n + 1) 38 [v0, v1, v2, v3] ([.int x]) h 0 0 = (ret (some (.int x)) h 0 0) := (amWp_dec rfl dX6_changes_38 rfl).trans (amTrue ⟨_, rfl, rfl⟩)
theorem wX6_changes_39 {ret F n h} {v0 v1 v2 v3 st} : eX6_changes ret F (n + 1) 39 [v0, v1, v2, v3] (st) h 0 0 = (amIsR v0 ∧ eX6_changes ret F n 40 [v0, v1, v2, v3] (v0 :: st) h 0 0) := (amWp_dec rfl dX6_changes_39 rfl).trans rfl
theorem wX6_changes_40 {ret F n h} {v0 v1 v2 v3 a} : eX6_changes ret F (n + 1) 40 [v0, v1, v2, v3] (.ref a :: []) h 0 0 = (h.1 a = (0, 6) ∧ eX6_changes ret F n 43 [v0, v1, v2, v3] (va_rf (h.2.2.2.1 a 0) :: []) h 0 0) := (amWp_dec rfl dX6_changes_40 rfl).trans (amS4 (Nat.le_of_ble_eq_true rfl) (Nat.le_of_ble_eq_true rfl) (Nat.le_of_ble_eq_true rfl) (Nat.le_of_ble_eq_true rfl))
theorem wX6_changes_43 {ret F n h} {v0 v1 v2 v3 st} : eX6_changes ret F (n + 1) 43 [v0, v1, v2, v3] (st) h 0 0 = (eX6_changes ret F n 45 [v0, v1, v2, v3] (.int (nI 13) :: st) h 0 0) := (amWp_dec rfl dX6_changes_43 rfl).trans rfl
theorem wX6_changes_45 {ret F n h} {v0 v2 v3 st x} : eX6_changes ret F (n + 1) 45 [v0, .int x, v2, v3] (st) h 0 0 = (eX6_changes ret F n 46 [v0, .int x, v2, v3] (.int x :: st) h 0 0) := (amWp_dec rfl dX6_changes_45 rfl).trans rfl
theorem wX6_changes_46 {ret F n h} {v0 v1 v2 v3 st y x} : eX6_changes ret F (n + 1) 46 [v0, v1, v2, v3] (.int y :: .int x :: st) h 0 0 = (eX6_changes ret F n 47 [v0, v1, v2, v3] (.int (x + y) :: st) h 0 0) := (amWp_dec rfl dX6_changes_46 rfl).trans rfl
theorem wX6_changes_47 {ret F n h} {v0 v1 v3 st x} : eX6_changes ret F (n + 1) 47 [v0, v1, .int x, v3] (st) h 0 0 = (eX6_changes ret F n 48 [v0, v1, .int x, v3] (.int x :: st) h 0 0) := (amWp_dec rfl dX6_changes_47 rfl).trans rfl
theorem wX6_changes_48 {ret F n h} {v0 v1 v2 v3 st y x a} : eX6_changes ret F (n + 1) 48 [v0, v1, v2, v3] (.int y :: .int x :: .ref a :: st) h 0 0 = ((h.1 a).1 = 1 ∧ vp_in x (h.1 a).2 ∧ amN0 ≤ a ∧ eX6_changes ret F n 49 [v0, v1, v2, v3] (st) (amSI h (amU h.2.1 a x.toNatClampNeg y)) 0 0) := (amWp_dec rfl dX6_changes_48 rfl).trans rfl
theorem wX6_changes_49 {ret F n h} {v0 v1 v2 st x} : eX6_changes ret F (n + 1) 49 [v0, v1, v2, .int x] (st) h 0 0 = (eX6_changes ret F n 50 [v0, v1, v2, .int x] (.int x :: st) h 0 0) := (amWp_dec rfl dX6_changes_49 rfl).trans rfl
theorem wX6_changes_50 {ret F n h} {v0 v1 v2 v3 x} : eX6_changes ret F (n + 1) 50 [v0, v1, v2, v3] ([.int x]) h 0 0 = (ret (some (.int x)) h 0 0) := (amWp_dec rfl dX6_changes_50 rfl).trans (amTrue ⟨_, rfl, rfl⟩)
theorem evX6_changes (l : Launch) (G : amG) : ∀ pc S i sz, amLk rX6_changes pc = some S → decode cX6_changes pc = .ok (i, sz) → amSiteP pc G l yX6_changes.cls yX6_changes.name yX6_changes.desc (amRm 3 0 0) i sz S.1 S.2.1 S.2.2.1 S.2.2.2 := amLk_ok (by
  refine List.forall_mem_cons.mpr ⟨⟨_, _, dX6_changes_2, amSite.P (amSiteV (C := RX6) (metX6_isBook l G) rfl (by decide) (by decide) (lw_V q1423 q1425 qs46 q94 q1426) ⟨_, rfl, rfl⟩ ⟨rfl, by decide +kernel, by decide +kernel, by decide +kernel⟩)⟩, ?_⟩
  refine List.forall_mem_cons.mpr ⟨⟨_, _, dX6_changes_9, amSite.P (amSiteS (metX6_isSet l G) rfl (by decide) (by decide) (lw_S q1517 q1518 q94 q1519) ⟨by decide +kernel, by decide +kernel, by decide +kernel⟩)⟩, ?_⟩
  refine List.forall_mem_cons.mpr ⟨⟨_, _, dX6_changes_22, amSite.P (amSiteGet ⟨_, rfl, by decide, Or.inl q1295⟩)⟩, ?_⟩
  refine List.forall_mem_cons.mpr ⟨⟨_, _, dX6_changes_40, amSite.P (amSiteGet ⟨_, rfl, by decide, Or.inl q1295⟩)⟩, ?_⟩
  exact fun _ h => absurd h List.not_mem_nil)
theorem goX6_changes {ret F} (hF : amCld cX6_changes kX6_changes (amLk rX6_changes) (some .int) 0 0 ret F) (n : Nat) {pc ls st h k z} (q : sX6_changes ret F n pc ls st h k z) : F pc ls st h k z := hF.1 n pc ls st h k z q
theorem metX6_changes (l : Launch) (G : amG) : amMet l G yX6_changes (ws_ yX6_changes cX6_changes 4 (some .int)) 3 0 0 tX6_changes := by
  refine amMet_of (cut := kX6_changes) (by decide +kernel) (evX6_changes l G) ?_
  intro as h K hT
  match as, hT with
  | [.ref a, .int k0, .int x], ⟨S, e, hA, hK⟩ =>
  refine ⟨Nat.le_of_ble_eq_true rfl, fun F hF => ?_⟩
  show F 0 [.ref a, .int k0, .int x, .retAddr 0] [] h 0 0
  obtain ⟨a, rfl⟩ : ∃ i : Nat, i = a := ⟨_, rfl⟩
  subst e
  have hR := hA.1
  have hS := hA.2.1
  have n7 := hS.n7
  have hn : h.2.1 125 0 = nI S.ord.length := hS.n
  have key0 : ∀ c, chgR S k0 x = (S, c) → amRet 0 0 K (some (.int c)) h 0 0 := fun c e => by
    have key := hK h.2.1
    rw [e] at key
    exact amRet.of (by decide) (by decide) (key hS (maFr.rf _))
  by_cases b : ∃ j, j < S.ord.length ∧ k0 = nI j
  · obtain ⟨j, hj, rfl⟩ := b
    have ec : (nI j).toNatClampNeg = j := amCl_nI (by omega)
    have c1 : ¬ ¬ ((nI j).toNatClampNeg < S.ord.length ∧ nI j = nI (nI j).toNatClampNeg) := fun z => z (by rw [ec]; exact ⟨hj, rfl⟩)
    have bT : (lN 0 ≤ (nI j).toInt64 ∧ (nI j).toInt64 ≤ (nI S.ord.length - nI 1).toInt64) := (isBk n7).mpr ⟨j, hj, rfl⟩
    by_cases q : lN 1 ≤ x.toInt64 ∧ x.toInt64 ≤ lN 1048575
    · obtain ⟨q1, q2⟩ := in01.mp q
      obtain ⟨v, v1, v2, rfl⟩ := (amInL (by decide) (by decide)).mp q
      have sj := hS.s0 j hj
      have sx := hA.2.2.X.at j
      by_cases z : S.sets.getD j 0 = v
      · have := key0 (-2) (by rw [chgR, if_neg c1, if_neg (fun z => z q), ec, z, if_pos rfl])
        rw [z] at sj
        refine goX6_changes hF 60 ?_
        simp (disch := omega) only [wX6_changes_0, uX6_changes_0, wX6_changes_1, wX6_changes_2, wX6_changes_5, wX6_changes_8, wX6_changes_9, wX6_changes_12, wX6_changes_15, wX6_changes_16, wX6_changes_19, wX6_changes_20, wX6_changes_21, wX6_changes_22, wX6_changes_25, wX6_changes_27, wX6_changes_28, wX6_changes_29, wX6_changes_30, wX6_changes_31, wX6_changes_32, wX6_changes_33, wX6_changes_36, wX6_changes_38, wX6_changes_39, wX6_changes_40, wX6_changes_43, wX6_changes_45, wX6_changes_46, wX6_changes_47, wX6_changes_48, wX6_changes_49, wX6_changes_50, amSI_1, amSI_2, amSI_3, amSI_s, amU_at, amIsR_ref, amIsR_null, amIsR_rf, amRf_some, amRf_none, amClr_int, amClr_ref, amClr_null, amClr_long, amClr_ra, amClr_rf, amFit_int, amFit_oref, amFit_aref, amFit_onull, amFit_anull, amOptSome, amOptNone, List.cons_append, List.nil_append, true_and, and_true, true_implies, not_true_eq_false, not_false_eq_true, false_implies, and_self, Nat.add_zero, Nat.zero_add, ne_eq, Prod.mk.injEq, amC01_0, amC01_1, amC01_nb, amNb0, amNb1, amTcpI_d, Nat.reduceLeDiff, Nat.reduceAdd, Nat.reduceSub, Nat.reduceEqDiff, Nat.le_refl, amN0le, hR.s, hR.r, hR, amVI, amCl_nI, amAdd, amEqI, tX6_isBook_d, tX6_isSet_d, hn, bT, q1, q2, sj]
        exact this
      · have z' : (S.sets.getD j 0 = v) = False := eq_false z
        have e : chgR S (nI j) (nI v) = (S.setW j v, nI (S.sets.getD j 0)) := by rw [chgR, if_neg c1, if_neg (fun z => z q), ec, if_neg (by rw [amEqI (by omega) (by omega)]; exact z), amCl_nI (by omega)]
        rw [e] at hK
        refine goX6_changes hF 60 ?_
        simp (disch := omega) only [wX6_changes_0, uX6_changes_0, wX6_changes_1, wX6_changes_2, wX6_changes_5, wX6_changes_8, wX6_changes_9, wX6_changes_12, wX6_changes_15, wX6_changes_16, wX6_changes_19, wX6_changes_20, wX6_changes_21, wX6_changes_22, wX6_changes_25, wX6_changes_27, wX6_changes_28, wX6_changes_29, wX6_changes_30, wX6_changes_31, wX6_changes_32, wX6_changes_33, wX6_changes_36, wX6_changes_38, wX6_changes_39, wX6_changes_40, wX6_changes_43, wX6_changes_45, wX6_changes_46, wX6_changes_47, wX6_changes_48, wX6_changes_49, wX6_changes_50, amSI_1, amSI_2, amSI_3, amSI_s, amU_at, amIsR_ref, amIsR_null, amIsR_rf, amRf_some, amRf_none, amClr_int, amClr_ref, amClr_null, amClr_long, amClr_ra, amClr_rf, amFit_int, amFit_oref, amFit_aref, amFit_onull, amFit_anull, amOptSome, amOptNone, List.cons_append, List.nil_append, true_and, and_true, true_implies, not_true_eq_false, not_false_eq_true, false_implies, and_self, Nat.add_zero, Nat.zero_add, ne_eq, Prod.mk.injEq, amC01_0, amC01_1, amC01_nb, amNb0, amNb1, amTcpI_d, Nat.reduceLeDiff, Nat.reduceAdd, Nat.reduceSub, Nat.reduceEqDiff, Nat.le_refl, amN0le, hR.s, hR.r, hR, amVI, amCl_nI, amAdd, amEqI, tX6_isBook_d, tX6_isSet_d, hn, bT, q1, q2, sj, z']
        refine amRet.of (by decide) (by decide) (hK _ (RwIs.mk hS.n7 ?_ hS.la ?_ ?_ ?_ ?_ ?_ ?_ (fun k hk => ?_) (fun k hk => ?_) (fun k hk => ?_)) (maFr.r (fun i hi => ?_)))
        · show (S.sets.set j v).length = _
          rw [List.length_set]; exact hS.ls
        · simp (disch := omega) only [amU_at, amU_ne, amU_nj, amU_neR, up_ne, up_at, amSI_2]
          exact hn
        · simp (disch := omega) only [amU_at, amU_ne, amU_nj, amU_neR, up_ne, up_at, amSI_2]
          exact hS.prior
        · simp (disch := omega) only [amU_at, amU_ne, amU_nj, amU_neR, up_ne, up_at, amSI_2]
          exact hS.span
        · simp (disch := omega) only [amU_at, amU_ne, amU_nj, amU_neR, up_ne, up_at, amSI_2]
          exact hS.bound
        · simp (disch := omega) only [amU_at, amU_ne, amU_nj, amU_neR, up_ne, up_at, amSI_2]
          exact hS.rule
        · simp (disch := omega) only [amU_at, amU_ne, amU_nj, amU_neR, up_ne, up_at, amSI_2]
          exact hS.draw
        · have hk : k < S.ord.length := hk
          simp (disch := omega) only [amU_at, amU_ne, amU_nj, amU_neR, up_ne, up_at, amSI_2]
          exact hS.o0 k hk
        · have hk : k < S.ord.length := hk
          show _ = nI ((S.sets.set j v).getD k 0)
          rw [setl_getD (by rw [hS.ls]; exact hj)]
          by_cases y : k = j
          · subst y
            rw [if_pos rfl]
            simp (disch := omega) only [amU_at, amU_ne, amU_nj, amU_neR, up_ne, up_at, amSI_2]
          · rw [if_neg y]
            simp (disch := omega) only [amU_at, amU_ne, amU_nj, amU_neR, up_ne, up_at, amSI_2]
            exact hS.s0 k hk
        · have hk : k < S.ord.length := hk
          simp (disch := omega) only [amU_at, amU_ne, amU_nj, amU_neR, up_ne, up_at, amSI_2]
          exact hS.a0 k hk
        · simp (disch := omega) only [amU_at, amU_ne, amU_nj, amU_neR, up_ne, up_at, amSI_2]
    · have := key0 (-1) (by rw [chgR, if_neg c1, if_pos q])
      by_cases q1 : lN 0 ≤ x.toInt64 ∧ x.toInt64 ≤ lN 1048575
      · have q2 : x = 0 := Classical.byContradiction (fun z => q (in01.mpr ⟨q1, z⟩))
        have q3 : (x = 0) = True := eq_true q2
        refine goX6_changes hF 60 ?_
        simp (disch := omega) only [wX6_changes_0, uX6_changes_0, wX6_changes_1, wX6_changes_2, wX6_changes_5, wX6_changes_8, wX6_changes_9, wX6_changes_12, wX6_changes_15, wX6_changes_16, wX6_changes_19, wX6_changes_20, wX6_changes_21, wX6_changes_22, wX6_changes_25, wX6_changes_27, wX6_changes_28, wX6_changes_29, wX6_changes_30, wX6_changes_31, wX6_changes_32, wX6_changes_33, wX6_changes_36, wX6_changes_38, wX6_changes_39, wX6_changes_40, wX6_changes_43, wX6_changes_45, wX6_changes_46, wX6_changes_47, wX6_changes_48, wX6_changes_49, wX6_changes_50, amSI_1, amSI_2, amSI_3, amSI_s, amU_at, amIsR_ref, amIsR_null, amIsR_rf, amRf_some, amRf_none, amClr_int, amClr_ref, amClr_null, amClr_long, amClr_ra, amClr_rf, amFit_int, amFit_oref, amFit_aref, amFit_onull, amFit_anull, amOptSome, amOptNone, List.cons_append, List.nil_append, true_and, and_true, true_implies, not_true_eq_false, not_false_eq_true, false_implies, and_self, Nat.add_zero, Nat.zero_add, ne_eq, Prod.mk.injEq, amC01_0, amC01_1, amC01_nb, amNb0, amNb1, amTcpI_d, Nat.reduceLeDiff, Nat.reduceAdd, Nat.reduceSub, Nat.reduceEqDiff, Nat.le_refl, amN0le, hR.s, hR.r, hR, amVI, amCl_nI, tX6_isBook_d, tX6_isSet_d, hn, bT, q1, q3]
        exact this
      · refine goX6_changes hF 60 ?_
        simp (disch := omega) only [wX6_changes_0, uX6_changes_0, wX6_changes_1, wX6_changes_2, wX6_changes_5, wX6_changes_8, wX6_changes_9, wX6_changes_12, wX6_changes_15, wX6_changes_16, wX6_changes_19, wX6_changes_20, wX6_changes_21, wX6_changes_22, wX6_changes_25, wX6_changes_27, wX6_changes_28, wX6_changes_29, wX6_changes_30, wX6_changes_31, wX6_changes_32, wX6_changes_33, wX6_changes_36, wX6_changes_38, wX6_changes_39, wX6_changes_40, wX6_changes_43, wX6_changes_45, wX6_changes_46, wX6_changes_47, wX6_changes_48, wX6_changes_49, wX6_changes_50, amSI_1, amSI_2, amSI_3, amSI_s, amU_at, amIsR_ref, amIsR_null, amIsR_rf, amRf_some, amRf_none, amClr_int, amClr_ref, amClr_null, amClr_long, amClr_ra, amClr_rf, amFit_int, amFit_oref, amFit_aref, amFit_onull, amFit_anull, amOptSome, amOptNone, List.cons_append, List.nil_append, true_and, and_true, true_implies, not_true_eq_false, not_false_eq_true, false_implies, and_self, Nat.add_zero, Nat.zero_add, ne_eq, Prod.mk.injEq, amC01_0, amC01_1, amC01_nb, amNb0, amNb1, amTcpI_d, Nat.reduceLeDiff, Nat.reduceAdd, Nat.reduceSub, Nat.reduceEqDiff, Nat.le_refl, amN0le, hR.s, hR.r, hR, amVI, amCl_nI, tX6_isBook_d, tX6_isSet_d, hn, bT, q1]
        exact this
  · have := key0 (-1) (by rw [chgR, if_pos (fun z => b ⟨_, z.1, z.2⟩)])
    have bF : ¬ (lN 0 ≤ k0.toInt64 ∧ k0.toInt64 ≤ (nI S.ord.length - nI 1).toInt64) := fun z => b ((isBk n7).mp z)
    refine goX6_changes hF 60 ?_
    simp (disch := omega) only [wX6_changes_0, uX6_changes_0, wX6_changes_1, wX6_changes_2, wX6_changes_5, wX6_changes_8, wX6_changes_9, wX6_changes_12, wX6_changes_15, wX6_changes_16, wX6_changes_19, wX6_changes_20, wX6_changes_21, wX6_changes_22, wX6_changes_25, wX6_changes_27, wX6_changes_28, wX6_changes_29, wX6_changes_30, wX6_changes_31, wX6_changes_32, wX6_changes_33, wX6_changes_36, wX6_changes_38, wX6_changes_39, wX6_changes_40, wX6_changes_43, wX6_changes_45, wX6_changes_46, wX6_changes_47, wX6_changes_48, wX6_changes_49, wX6_changes_50, amSI_1, amSI_2, amSI_3, amSI_s, amU_at, amIsR_ref, amIsR_null, amIsR_rf, amRf_some, amRf_none, amClr_int, amClr_ref, amClr_null, amClr_long, amClr_ra, amClr_rf, amFit_int, amFit_oref, amFit_aref, amFit_onull, amFit_anull, amOptSome, amOptNone, List.cons_append, List.nil_append, true_and, and_true, true_implies, not_true_eq_false, not_false_eq_true, false_implies, and_self, Nat.add_zero, Nat.zero_add, ne_eq, Prod.mk.injEq, amC01_0, amC01_1, amC01_nb, amNb0, amNb1, amTcpI_d, Nat.reduceLeDiff, Nat.reduceAdd, Nat.reduceSub, Nat.reduceEqDiff, Nat.le_refl, amN0le, hR.s, hR.r, hR, amVI, amCl_nI, tX6_isBook_d, hn, bF]
    exact this
theorem tX6_changes_d {a : Nat} {k0 x : Int32} {h : amH} {K : Option Value → amH → Prop} : tX6_changes [.ref a, .int k0, .int x] h K = ∃ S : HS, a = (124 : Nat) ∧ mdSys h S ∧ ∀ m', RwIs m' 125 0 (chgR S k0 x).1 → maFr h.2.1 m' → K (some (.int (chgR S k0 x).2)) (amSI h m') := rfl
def tX6_sets : amT := fun as h K => match as with
  | [.ref a, .int x] => ∃ S : HS, a = (124 : Nat) ∧ mdSys h S ∧ ∀ m', RwIs m' 125 0 (setR S x).1 → maFr h.2.1 m' → K (some (.int (setR S x).2)) (amSI h m')
  | _ => False
/-! ReadingStagesModel.sets(I)I -/
def kX6_sets : Nat → Bool := fun pc => false
def rX6_sets : List (Nat × amS) := [(1, 1, 0, 0, tX6_isSet), (10, 1, 0, 0, amTget 6 0), (25, 1, 0, 0, amTget 6 0)]
def eX6_sets (ret : Option Value → amH → Nat → Nat → Prop) (F : amX) : Nat → amX := amWp cX6_sets kX6_sets (amLk rX6_sets) (some .int) 0 0 ret F
def sX6_sets (ret : Option Value → amH → Nat → Nat → Prop) (F : amX) : Nat → amX := amWs cX6_sets kX6_sets (amLk rX6_sets) (some .int) 0 0 ret F
theorem wX6_sets_0 {ret F n h} {v0 v2 st x} : eX6_sets ret F (n + 1) 0 [v0, .int x, v2] (st) h 0 0 = (eX6_sets ret F n 1 [v0, .int x, v2] (.int x :: st) h 0 0) := (amWp_dec rfl dX6_sets_0 rfl).trans rfl
theorem uX6_sets_0 {ret F n h} {v0 v2 st x} : sX6_sets ret F n 0 [v0, .int x, v2] (st) h 0 0 = (eX6_sets ret F n 1 [v0, .int x, v2] (.int x :: st) h 0 0) := (amWs_dec dX6_sets_0 rfl).trans rfl
theorem wX6_sets_1 {ret F n h} {v0 v1 v2 x0} : eX6_sets ret F (n + 1) 1 [v0, v1, v2] (.int x0 :: []) h 0 0 = (tX6_isSet [.int x0] h (fun v h => eX6_sets ret F n 4 [v0, v1, v2] (v.toList ++ ([])) h 0 0)) := (amWp_dec rfl dX6_sets_1 rfl).trans (amS4 (Nat.le_of_ble_eq_true rfl) (Nat.le_of_ble_eq_true rfl) (Nat.le_of_ble_eq_true rfl) (Nat.le_of_ble_eq_true rfl))
theorem wX6_sets_4 {ret F n h} {v0 v1 v2 st x} : eX6_sets ret F (n + 1) 4 [v0, v1, v2] (.int x :: st) h 0 0 = ((¬ x = 0 → eX6_sets ret F n 9 [v0, v1, v2] (st) h 0 0) ∧ (x = 0 → eX6_sets ret F n 7 [v0, v1, v2] (st) h 0 0)) := (amWp_dec rfl dX6_sets_4 rfl).trans rfl
theorem wX6_sets_7 {ret F n h} {v0 v1 v2 st} : eX6_sets ret F (n + 1) 7 [v0, v1, v2] (st) h 0 0 = (eX6_sets ret F n 8 [v0, v1, v2] (.int (-1) :: st) h 0 0) := (amWp_dec rfl dX6_sets_7 rfl).trans rfl
theorem wX6_sets_8 {ret F n h} {v0 v1 v2 x} : eX6_sets ret F (n + 1) 8 [v0, v1, v2] ([.int x]) h 0 0 = (ret (some (.int x)) h 0 0) := (amWp_dec rfl dX6_sets_8 rfl).trans (amTrue ⟨_, rfl, rfl⟩)
theorem wX6_sets_9 {ret F n h} {v0 v1 v2 st} : eX6_sets ret F (n + 1) 9 [v0, v1, v2] (st) h 0 0 = (amIsR v0 ∧ eX6_sets ret F n 10 [v0, v1, v2] (v0 :: st) h 0 0) := (amWp_dec rfl dX6_sets_9 rfl).trans rfl
theorem wX6_sets_10 {ret F n h} {v0 v1 v2 a} : eX6_sets ret F (n + 1) 10 [v0, v1, v2] (.ref a :: []) h 0 0 = (h.1 a = (0, 6) ∧ eX6_sets ret F n 13 [v0, v1, v2] (va_rf (h.2.2.2.1 a 0) :: []) h 0 0) := (amWp_dec rfl dX6_sets_10 rfl).trans (amS4 (Nat.le_of_ble_eq_true rfl) (Nat.le_of_ble_eq_true rfl) (Nat.le_of_ble_eq_true rfl) (Nat.le_of_ble_eq_true rfl))
theorem wX6_sets_13 {ret F n h} {v0 v1 v2 st} : eX6_sets ret F (n + 1) 13 [v0, v1, v2] (st) h 0 0 = (eX6_sets ret F n 14 [v0, v1, v2] (.int (nI 1) :: st) h 0 0) := (amWp_dec rfl dX6_sets_13 rfl).trans rfl
theorem wX6_sets_14 {ret F n h} {v0 v1 v2 st x a} : eX6_sets ret F (n + 1) 14 [v0, v1, v2] (.int x :: .ref a :: st) h 0 0 = ((h.1 a).1 = 1 ∧ vp_in x (h.1 a).2 ∧ eX6_sets ret F n 15 [v0, v1, v2] (.int (h.2.1 a x.toNatClampNeg) :: st) h 0 0) := (amWp_dec rfl dX6_sets_14 rfl).trans rfl
theorem wX6_sets_15 {ret F n h} {v0 v1 v2 st x} : eX6_sets ret F (n + 1) 15 [v0, v1, v2] (.int x :: st) h 0 0 = (eX6_sets ret F n 16 [v0, amClr v1, .int x] (st) h 0 0) := (amWp_dec rfl dX6_sets_15 rfl).trans (amTrue (Nat.le_of_ble_eq_true rfl))
theorem wX6_sets_16 {ret F n h} {v0 v1 st x} : eX6_sets ret F (n + 1) 16 [v0, v1, .int x] (st) h 0 0 = (eX6_sets ret F n 17 [v0, v1, .int x] (.int x :: st) h 0 0) := (amWp_dec rfl dX6_sets_16 rfl).trans rfl
theorem wX6_sets_17 {ret F n h} {v0 v2 st x} : eX6_sets ret F (n + 1) 17 [v0, .int x, v2] (st) h 0 0 = (eX6_sets ret F n 18 [v0, .int x, v2] (.int x :: st) h 0 0) := (amWp_dec rfl dX6_sets_17 rfl).trans rfl
theorem wX6_sets_18 {ret F n h} {v0 v1 v2 st y x} : eX6_sets ret F (n + 1) 18 [v0, v1, v2] (.int y :: .int x :: st) h 0 0 = ((¬ x = y → eX6_sets ret F n 24 [v0, v1, v2] (st) h 0 0) ∧ (x = y → eX6_sets ret F n 21 [v0, v1, v2] (st) h 0 0)) := (amWp_dec rfl dX6_sets_18 rfl).trans rfl
theorem wX6_sets_21 {ret F n h} {v0 v1 v2 st} : eX6_sets ret F (n + 1) 21 [v0, v1, v2] (st) h 0 0 = (eX6_sets ret F n 23 [v0, v1, v2] (.int (-2) :: st) h 0 0) := (amWp_dec rfl dX6_sets_21 rfl).trans rfl
theorem wX6_sets_23 {ret F n h} {v0 v1 v2 x} : eX6_sets ret F (n + 1) 23 [v0, v1, v2] ([.int x]) h 0 0 = (ret (some (.int x)) h 0 0) := (amWp_dec rfl dX6_sets_23 rfl).trans (amTrue ⟨_, rfl, rfl⟩)
theorem wX6_sets_24 {ret F n h} {v0 v1 v2 st} : eX6_sets ret F (n + 1) 24 [v0, v1, v2] (st) h 0 0 = (amIsR v0 ∧ eX6_sets ret F n 25 [v0, v1, v2] (v0 :: st) h 0 0) := (amWp_dec rfl dX6_sets_24 rfl).trans rfl
theorem wX6_sets_25 {ret F n h} {v0 v1 v2 a} : eX6_sets ret F (n + 1) 25 [v0, v1, v2] (.ref a :: []) h 0 0 = (h.1 a = (0, 6) ∧ eX6_sets ret F n 28 [v0, v1, v2] (va_rf (h.2.2.2.1 a 0) :: []) h 0 0) := (amWp_dec rfl dX6_sets_25 rfl).trans (amS4 (Nat.le_of_ble_eq_true rfl) (Nat.le_of_ble_eq_true rfl) (Nat.le_of_ble_eq_true rfl) (Nat.le_of_ble_eq_true rfl))
theorem wX6_sets_28 {ret F n h} {v0 v1 v2 st} : eX6_sets ret F (n + 1) 28 [v0, v1, v2] (st) h 0 0 = (eX6_sets ret F n 29 [v0, v1, v2] (.int (nI 1) :: st) h 0 0) := (amWp_dec rfl dX6_sets_28 rfl).trans rfl
theorem wX6_sets_29 {ret F n h} {v0 v2 st x} : eX6_sets ret F (n + 1) 29 [v0, .int x, v2] (st) h 0 0 = (eX6_sets ret F n 30 [v0, .int x, v2] (.int x :: st) h 0 0) := (amWp_dec rfl dX6_sets_29 rfl).trans rfl
theorem wX6_sets_30 {ret F n h} {v0 v1 v2 st y x a} : eX6_sets ret F (n + 1) 30 [v0, v1, v2] (.int y :: .int x :: .ref a :: st) h 0 0 = ((h.1 a).1 = 1 ∧ vp_in x (h.1 a).2 ∧ amN0 ≤ a ∧ eX6_sets ret F n 31 [v0, v1, v2] (st) (amSI h (amU h.2.1 a x.toNatClampNeg y)) 0 0) := (amWp_dec rfl dX6_sets_30 rfl).trans rfl
theorem wX6_sets_31 {ret F n h} {v0 v1 st x} : eX6_sets ret F (n + 1) 31 [v0, v1, .int x] (st) h 0 0 = (eX6_sets ret F n 32 [v0, v1, .int x] (.int x :: st) h 0 0) := (amWp_dec rfl dX6_sets_31 rfl).trans rfl
theorem wX6_sets_32 {ret F n h} {v0 v1 v2 x} : eX6_sets ret F (n + 1) 32 [v0, v1, v2] ([.int x]) h 0 0 = (ret (some (.int x)) h 0 0) := (amWp_dec rfl dX6_sets_32 rfl).trans (amTrue ⟨_, rfl, rfl⟩)
theorem evX6_sets (l : Launch) (G : amG) : ∀ pc S i sz, amLk rX6_sets pc = some S → decode cX6_sets pc = .ok (i, sz) → amSiteP pc G l yX6_sets.cls yX6_sets.name yX6_sets.desc (amRm 3 0 0) i sz S.1 S.2.1 S.2.2.1 S.2.2.2 := amLk_ok (by
  refine List.forall_mem_cons.mpr ⟨⟨_, _, dX6_sets_1, amSite.P (amSiteS (metX6_isSet l G) rfl (by decide) (by decide) (lw_S q1517 q1518 q94 q1519) ⟨by decide +kernel, by decide +kernel, by decide +kernel⟩)⟩, ?_⟩
  refine List.forall_mem_cons.mpr ⟨⟨_, _, dX6_sets_10, amSite.P (amSiteGet ⟨_, rfl, by decide, Or.inl q1295⟩)⟩, ?_⟩
  refine List.forall_mem_cons.mpr ⟨⟨_, _, dX6_sets_25, amSite.P (amSiteGet ⟨_, rfl, by decide, Or.inl q1295⟩)⟩, ?_⟩
  exact fun _ h => absurd h List.not_mem_nil)
theorem goX6_sets {ret F} (hF : amCld cX6_sets kX6_sets (amLk rX6_sets) (some .int) 0 0 ret F) (n : Nat) {pc ls st h k z} (q : sX6_sets ret F n pc ls st h k z) : F pc ls st h k z := hF.1 n pc ls st h k z q
theorem metX6_sets (l : Launch) (G : amG) : amMet l G yX6_sets (ws_ yX6_sets cX6_sets 3 (some .int)) 3 0 0 tX6_sets := by
  refine amMet_of (cut := kX6_sets) (by decide +kernel) (evX6_sets l G) ?_
  intro as h K hT
  match as, hT with
  | [.ref a, .int x], ⟨S, e, hA, hK⟩ =>
  refine ⟨Nat.le_of_ble_eq_true rfl, fun F hF => ?_⟩
  show F 0 [.ref a, .int x, .retAddr 0] [] h 0 0
  obtain ⟨a, rfl⟩ : ∃ i : Nat, i = a := ⟨_, rfl⟩
  subst e
  have hR := hA.1
  have hS := hA.2.1
  have n7 := hS.n7
  have h1 : h.2.1 125 1 = nI S.prior := hS.prior
  have p20 : S.prior < 1048576 := hA.2.2.B.2.2.2
  have key0 : ∀ c, setR S x = (S, c) → amRet 0 0 K (some (.int c)) h 0 0 := fun c e => by
    have key := hK h.2.1
    rw [e] at key
    exact amRet.of (by decide) (by decide) (key hS (maFr.rf _))
  by_cases q : lN 0 ≤ x.toInt64 ∧ x.toInt64 ≤ lN 1048575
  · obtain ⟨v, v1, v2, rfl⟩ := (amInL (by decide) (by decide)).mp q
    by_cases z : S.prior = v
    · have := key0 (-2) (by rw [setR, if_neg (fun z => z q), z, if_pos rfl])
      rw [z] at h1
      refine goX6_sets hF 60 ?_
      simp (disch := omega) only [wX6_sets_0, uX6_sets_0, wX6_sets_1, wX6_sets_4, wX6_sets_7, wX6_sets_8, wX6_sets_9, wX6_sets_10, wX6_sets_13, wX6_sets_14, wX6_sets_15, wX6_sets_16, wX6_sets_17, wX6_sets_18, wX6_sets_21, wX6_sets_23, wX6_sets_24, wX6_sets_25, wX6_sets_28, wX6_sets_29, wX6_sets_30, wX6_sets_31, wX6_sets_32, amSI_1, amSI_2, amSI_3, amSI_s, amU_at, amIsR_ref, amIsR_null, amIsR_rf, amRf_some, amRf_none, amClr_int, amClr_ref, amClr_null, amClr_long, amClr_ra, amClr_rf, amFit_int, amFit_oref, amFit_aref, amFit_onull, amFit_anull, amOptSome, amOptNone, List.cons_append, List.nil_append, true_and, and_true, true_implies, not_true_eq_false, not_false_eq_true, false_implies, and_self, Nat.add_zero, Nat.zero_add, ne_eq, Prod.mk.injEq, amC01_0, amC01_1, amC01_nb, amNb0, amNb1, amTcpI_d, Nat.reduceLeDiff, Nat.reduceAdd, Nat.reduceSub, Nat.reduceEqDiff, Nat.le_refl, amN0le, hR.s, hR.r, amLeI, amLtI, amEqI, amLe0, amGt0, amEq0, amNotPosI, amGe0, amVI, amCl_nI, amAdd, amSub, amMul, tX6_isSet_d, q, h1]
      exact this
    · have z' : (S.prior = v) = False := eq_false z
      have e : setR S (nI v) = (S.setP v, nI S.prior) := by rw [setR, if_neg (fun z => z q), if_neg (by rw [amEqI (by omega) (by omega)]; exact z), amCl_nI (by omega)]
      rw [e] at hK
      refine goX6_sets hF 60 ?_
      simp (disch := omega) only [wX6_sets_0, uX6_sets_0, wX6_sets_1, wX6_sets_4, wX6_sets_7, wX6_sets_8, wX6_sets_9, wX6_sets_10, wX6_sets_13, wX6_sets_14, wX6_sets_15, wX6_sets_16, wX6_sets_17, wX6_sets_18, wX6_sets_21, wX6_sets_23, wX6_sets_24, wX6_sets_25, wX6_sets_28, wX6_sets_29, wX6_sets_30, wX6_sets_31, wX6_sets_32, amSI_1, amSI_2, amSI_3, amSI_s, amU_at, amIsR_ref, amIsR_null, amIsR_rf, amRf_some, amRf_none, amClr_int, amClr_ref, amClr_null, amClr_long, amClr_ra, amClr_rf, amFit_int, amFit_oref, amFit_aref, amFit_onull, amFit_anull, amOptSome, amOptNone, List.cons_append, List.nil_append, true_and, and_true, true_implies, not_true_eq_false, not_false_eq_true, false_implies, and_self, Nat.add_zero, Nat.zero_add, ne_eq, Prod.mk.injEq, amC01_0, amC01_1, amC01_nb, amNb0, amNb1, amTcpI_d, Nat.reduceLeDiff, Nat.reduceAdd, Nat.reduceSub, Nat.reduceEqDiff, Nat.le_refl, amN0le, hR.s, hR.r, amLeI, amLtI, amEqI, amLe0, amGt0, amEq0, amNotPosI, amGe0, amVI, amCl_nI, amAdd, amSub, amMul, tX6_isSet_d, q, h1, z']
      refine amRet.of (by decide) (by decide) (hK _ (RwIs.mk hS.n7 hS.ls hS.la ?_ ?_ ?_ ?_ ?_ ?_ (fun k hk => ?_) (fun k hk => ?_) (fun k hk => ?_)) (maFr.r (fun i hi => ?_)))
      · simp (disch := omega) only [amU_at, amU_ne, amU_nj, amU_neR, up_ne, up_at, amSI_2]
        exact hS.n
      · simp (disch := omega) only [amU_at, amU_ne, amU_nj, amU_neR, up_ne, up_at, amSI_2]
        rfl
      · simp (disch := omega) only [amU_at, amU_ne, amU_nj, amU_neR, up_ne, up_at, amSI_2]
        exact hS.span
      · simp (disch := omega) only [amU_at, amU_ne, amU_nj, amU_neR, up_ne, up_at, amSI_2]
        exact hS.bound
      · simp (disch := omega) only [amU_at, amU_ne, amU_nj, amU_neR, up_ne, up_at, amSI_2]
        exact hS.rule
      · simp (disch := omega) only [amU_at, amU_ne, amU_nj, amU_neR, up_ne, up_at, amSI_2]
        exact hS.draw
      · simp (disch := omega) only [amU_at, amU_ne, amU_nj, amU_neR, up_ne, up_at, amSI_2]
        exact hS.o0 k hk
      · simp (disch := omega) only [amU_at, amU_ne, amU_nj, amU_neR, up_ne, up_at, amSI_2]
        exact hS.s0 k hk
      · simp (disch := omega) only [amU_at, amU_ne, amU_nj, amU_neR, up_ne, up_at, amSI_2]
        exact hS.a0 k hk
      · simp (disch := omega) only [amU_at, amU_ne, amU_nj, amU_neR, up_ne, up_at, amSI_2]
  · have := key0 (-1) (by rw [setR, if_pos q])
    refine goX6_sets hF 60 ?_
    simp (disch := omega) only [wX6_sets_0, uX6_sets_0, wX6_sets_1, wX6_sets_4, wX6_sets_7, wX6_sets_8, wX6_sets_9, wX6_sets_10, wX6_sets_13, wX6_sets_14, wX6_sets_15, wX6_sets_16, wX6_sets_17, wX6_sets_18, wX6_sets_21, wX6_sets_23, wX6_sets_24, wX6_sets_25, wX6_sets_28, wX6_sets_29, wX6_sets_30, wX6_sets_31, wX6_sets_32, amSI_1, amSI_2, amSI_3, amSI_s, amU_at, amIsR_ref, amIsR_null, amIsR_rf, amRf_some, amRf_none, amClr_int, amClr_ref, amClr_null, amClr_long, amClr_ra, amClr_rf, amFit_int, amFit_oref, amFit_aref, amFit_onull, amFit_anull, amOptSome, amOptNone, List.cons_append, List.nil_append, true_and, and_true, true_implies, not_true_eq_false, not_false_eq_true, false_implies, and_self, Nat.add_zero, Nat.zero_add, ne_eq, Prod.mk.injEq, amC01_0, amC01_1, amC01_nb, amNb0, amNb1, amTcpI_d, Nat.reduceLeDiff, Nat.reduceAdd, Nat.reduceSub, Nat.reduceEqDiff, Nat.le_refl, amN0le, hR.s, hR.r, amLeI, amLtI, amEqI, amLe0, amGt0, amEq0, amNotPosI, amGe0, amVI, amCl_nI, amAdd, amSub, amMul, tX6_isSet_d, q]
    exact this
theorem tX6_sets_d {a : Nat} {x : Int32} {h : amH} {K : Option Value → amH → Prop} : tX6_sets [.ref a, .int x] h K = ∃ S : HS, a = (124 : Nat) ∧ mdSys h S ∧ ∀ m', RwIs m' 125 0 (setR S x).1 → maFr h.2.1 m' → K (some (.int (setR S x).2)) (amSI h m') := rfl
