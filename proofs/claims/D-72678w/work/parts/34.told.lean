/-! what is told -/
set_option maxRecDepth 100000
/-- an order of ranks: each ahead of what it must be ahead of -/
def rankP (S : HS) : Prop := ∃ r : Nat → Nat, ∀ a b, a < S.ord.length → b < S.ord.length → (S.ahead.getD a 0).testBit b = true → r a < r b
/-- what holds of every house -/
def hsOk (S : HS) : Prop := hsB S ∧ setsB S ∧ S.bound ≤ 20 ∧ S.ord.Nodup ∧ (∀ x ∈ S.ord, x < S.ord.length) ∧ S.ord.length ≤ 7 ∧ S.sets.length = S.ord.length ∧ S.ahead.length = S.ord.length ∧ (∀ x ∈ S.ahead, x < 2 ^ S.ord.length) ∧ (∀ x ∈ S.sets, 0 < x) ∧ S.draw < 2147483648 ∧ rankP S ∧ ∀ k, k < S.ord.length → k ∈ S.ord
theorem aoFold_tb (A : List Nat) (b : Nat) : ∀ n i, ((List.range n).foldl (aoStep A b) 0).testBit i = (decide (i < n) && (A.getD i 0).testBit b)
  | 0, i => by simp
  | n + 1, i => by
    rw [range_fold, aoStep]
    by_cases h : (A.getD n 0).testBit b = true
    · rw [if_pos h, Nat.testBit_or, aoFold_tb A b n i, Nat.testBit_two_pow]
      by_cases e : n = i
      · subst e; rw [h]; simp
      · simp only [e, decide_false, Bool.or_false]
        congr 1
        simp only [decide_eq_decide]
        omega
    · rw [if_neg h, aoFold_tb A b n i]
      by_cases e : i = n
      · subst e
        have h2 : (A.getD i 0).testBit b = false := by simpa using h
        rw [h2]; simp
      · congr 1
        simp only [decide_eq_decide]
        omega
theorem hsOk.src {S : HS} (h : hsOk S) : srcP S := by
  obtain ⟨r, hr⟩ := h.2.2.2.2.2.2.2.2.2.2.2.1
  intro left h0 hl
  have la := h.2.2.2.2.2.2.2.1
  have gen : ∀ t k, k < S.ord.length → left.testBit k = true → r k ≤ t → ∃ j, j < S.ord.length ∧ left.testBit j = true ∧ S.aheadOf j &&& left = 0 := by
    intro t
    induction t with
    | zero =>
      intro k hk hb ht
      refine ⟨k, hk, hb, ?_⟩
      apply Nat.eq_of_testBit_eq
      intro i
      rw [Nat.testBit_and, HS.aheadOf, aoFold_tb]
      simp only [Nat.zero_testBit, Bool.and_eq_false_iff]
      by_cases q : (S.ahead.getD i 0).testBit k = true
      · by_cases hi : i < S.ord.length
        · have := hr i k hi hk q
          omega
        · left; left; rw [la]; simpa using hi
      · left; right; simpa using q
    | succ t ih =>
      intro k hk hb ht
      by_cases e : S.aheadOf k &&& left = 0
      · exact ⟨k, hk, hb, e⟩
      · obtain ⟨i, hi⟩ := Nat.exists_testBit_of_ne_zero e
        rw [Nat.testBit_and, HS.aheadOf, aoFold_tb] at hi
        simp only [Bool.and_eq_true, decide_eq_true_eq] at hi
        have hi1 : i < S.ord.length := by rw [← la]; exact hi.1.1
        have := hr i k hi1 hk hi.1.2
        exact ih i hi1 hi.2 (by omega)
  obtain ⟨k, hk⟩ := Nat.exists_testBit_of_ne_zero h0
  have hkn : k < S.ord.length := by
    apply Classical.byContradiction
    intro q
    rw [Nat.testBit_lt_two_pow (Nat.lt_of_lt_of_le hl (Nat.pow_le_pow_right (by decide) (by omega)))] at hk
    exact absurd hk (by decide)
  exact gen (r k) k hkn hk (Nat.le_refl _)
/-- the system, ready -/
def sysPre (h : amH) (S : HS) : Prop := rsAt h ∧ HsIs h.2.1 25 S ∧ hsOk S ∧ 143 ≤ h.2.2.2.2
theorem sysPre.ask {h : amH} {S : HS} (q : sysPre h S) : askPre h S := ⟨q.1, q.2.1, q.2.2.1.1, q.2.2.1.2.1, by have := q.2.2.1.2.2.1; omega, q.2.2.2⟩
theorem sysPre.rd {h : amH} {S : HS} (q : sysPre h S) : rdPre h S 28 S.ord := ⟨q.1, q.2.1, q.2.2.1.1, q.2.2.1.2.1, by have := q.2.2.1.2.2.1; omega, q.1.now.2.2.2.2.2.2, q.2.1.ord, Or.inl (by decide), q.2.2.1.2.2.2.2.1⟩
theorem goPre {h : amH} {S : HS} {K : Option Value → amH → Prop} (q : sysPre h S) (mis : Nat) (hm : mis < 128) (k : ∀ m', RdIs m' (S.rd S.ord mis) → rdFr h.2.1 m' → K none (amSI h m')) : tX0_go [.ref 24, .ref 28, .int (nI mis)] h K := by
  obtain ⟨hR, hS, hB, hX, hbo, hb, hl, ho, hn⟩ := q.rd
  exact ⟨S, S.ord, mis, rfl, hR, hS, hB, hX, hb, hl, ho, hn, rfl, hm, k⟩
/-- a number below -/
theorem isBk {x : Int32} {n : Nat} (hn : n ≤ 7) : (lN 0 ≤ x.toInt64 ∧ x.toInt64 ≤ (nI n - nI 1).toInt64) ↔ ∃ j, j < n ∧ x = nI j := by
  by_cases h : n = 0
  · subst h
    constructor
    · rintro ⟨h1, h2⟩
      rw [Int64.le_iff_toInt_le, Int32.toInt_toInt64] at h1 h2
      have e1 : (lN 0).toInt = 0 := by decide
      have e2 : (nI 0 - nI 1).toInt = -1 := by decide
      rw [Int32.toInt_toInt64] at h2
      omega
    · rintro ⟨j, hj, _⟩
      omega
  · rw [amSub (by omega), amToL (by omega), amInL (by decide) (by omega)]
    constructor
    · rintro ⟨j, h1, h2, h3⟩
      exact ⟨j, by omega, h3⟩
    · rintro ⟨j, h1, h2⟩
      exact ⟨j, by omega, by omega, h2⟩
def placeV (S : HS) (j : Nat) (w : Int32) : Int32 :=
  if w = nI 0 then nI (S.ord.getD j 0) else if w = nI 1 then nI (pop ((S.rd S.ord 0).2.getD j PL0).1) else if w = nI 2 then nI (pop ((S.rd S.ord 0).2.getD j PL0).2.1) else if w = nI 3 then nI (pop ((S.rd S.ord 0).2.getD j PL0).2.2.1) else if w = nI 4 then nI ((S.rd S.ord 0).2.getD j PL0).1 else if w = nI 5 then nI ((S.rd S.ord 0).2.getD j PL0).2.2.1 else if w = nI 6 then nI ((S.rd S.ord 0).2.getD j PL0).2.2.2 else -1
def placeA (S : HS) (x w : Int32) : Int32 := if x.toNatClampNeg < S.ord.length ∧ x = nI x.toNatClampNeg then placeV S x.toNatClampNeg w else -1
theorem placeA_in {S : HS} {j : Nat} {w : Int32} (hj : j < S.ord.length) (h : S.ord.length ≤ 7) : placeA S (nI j) w = placeV S j w := by
  have e := amCl_nI (n := j) (by omega)
  unfold placeA
  rw [e, if_pos ⟨hj, rfl⟩]
theorem placeA_out {S : HS} {x w : Int32} (hx : ¬ ∃ j, j < S.ord.length ∧ x = nI j) : placeA S x w = -1 := if_neg (fun q => hx ⟨_, q.1, q.2⟩)
theorem tX0_isBook_d {a : Nat} {y : Int64} {h : amH} {K : Option Value → amH → Prop} : tX0_isBook [.ref a, .long y] h K = (a = (24 : Nat) ∧ rsAt h ∧ K (some (.int (amC01 (lN 0 ≤ y ∧ y ≤ (h.2.1 28 1 - nI 1).toInt64)))) h) := rfl
def tX0_place : amT := fun as h K => match as with
  | [.ref a, .int x, .int w] => ∃ S : HS, a = (24 : Nat) ∧ sysPre h S ∧ ∀ m', rdFr h.2.1 m' → K (some (.int (placeA S x w))) (amSI h m')
  | _ => False
/-! ReadingStages.place(II)I -/
def kX0_place : Nat → Bool := fun pc => pc == 23
def rX0_place : List (Nat × amS) := [(3, 2, 0, 0, (amRecv 0 tX0_isBook)), (13, 1, 0, 0, amTget 0 0), (16, 1, 0, 0, amTget 1 2), (20, 3, 0, 0, (amRecv 0 tX0_go)), (69, 1, 0, 0, amTget 0 0), (72, 1, 0, 0, amTget 1 2), (76, 2, 0, 0, (amRecv 2 tX2_at)), (81, 1, 0, 0, amTget 0 4), (86, 1, 0, 0, tJ2_bitCount), (91, 1, 0, 0, amTget 0 5), (96, 1, 0, 0, tJ2_bitCount), (101, 1, 0, 0, amTget 0 6), (106, 1, 0, 0, tJ2_bitCount), (111, 1, 0, 0, amTget 0 4), (118, 1, 0, 0, amTget 0 6), (125, 1, 0, 0, amTget 0 7)]
def eX0_place (ret : Option Value → amH → Nat → Nat → Prop) (F : amX) : Nat → amX := amWp cX0_place kX0_place (amLk rX0_place) (some .int) 0 0 ret F
def sX0_place (ret : Option Value → amH → Nat → Nat → Prop) (F : amX) : Nat → amX := amWs cX0_place kX0_place (amLk rX0_place) (some .int) 0 0 ret F
theorem wX0_place_0 {ret F n h} {v0 v1 v2 st} : eX0_place ret F (n + 1) 0 [v0, v1, v2] (st) h 0 0 = (amIsR v0 ∧ eX0_place ret F n 1 [v0, v1, v2] (v0 :: st) h 0 0) := (amWp_dec rfl dX0_place_0 rfl).trans rfl
theorem uX0_place_0 {ret F n h} {v0 v1 v2 st} : sX0_place ret F n 0 [v0, v1, v2] (st) h 0 0 = (amIsR v0 ∧ eX0_place ret F n 1 [v0, v1, v2] (v0 :: st) h 0 0) := (amWs_dec dX0_place_0 rfl).trans rfl
theorem wX0_place_1 {ret F n h} {v0 v2 st x} : eX0_place ret F (n + 1) 1 [v0, .int x, v2] (st) h 0 0 = (eX0_place ret F n 2 [v0, .int x, v2] (.int x :: st) h 0 0) := (amWp_dec rfl dX0_place_1 rfl).trans rfl
theorem wX0_place_2 {ret F n h} {v0 v1 v2 st x} : eX0_place ret F (n + 1) 2 [v0, v1, v2] (.int x :: st) h 0 0 = (eX0_place ret F n 3 [v0, v1, v2] (.long x.toInt64 :: st) h 0 0) := (amWp_dec rfl dX0_place_2 rfl).trans rfl
theorem wX0_place_3 {ret F n h} {v0 v1 v2 x1 x0} : eX0_place ret F (n + 1) 3 [v0, v1, v2] (.long x1 :: .ref x0 :: []) h 0 0 = (h.1 x0 = (0, 0) ∧ tX0_isBook [.ref x0, .long x1] h (fun v h => eX0_place ret F n 6 [v0, v1, v2] (v.toList ++ ([])) h 0 0)) := (amWp_dec rfl dX0_place_3 rfl).trans (amS4 (Nat.le_of_ble_eq_true rfl) (Nat.le_of_ble_eq_true rfl) (Nat.le_of_ble_eq_true rfl) (Nat.le_of_ble_eq_true rfl))
theorem wX0_place_6 {ret F n h} {v0 v1 v2 st x} : eX0_place ret F (n + 1) 6 [v0, v1, v2] (.int x :: st) h 0 0 = ((¬ x = 0 → eX0_place ret F n 11 [v0, v1, v2] (st) h 0 0) ∧ (x = 0 → eX0_place ret F n 9 [v0, v1, v2] (st) h 0 0)) := (amWp_dec rfl dX0_place_6 rfl).trans rfl
theorem wX0_place_9 {ret F n h} {v0 v1 v2 st} : eX0_place ret F (n + 1) 9 [v0, v1, v2] (st) h 0 0 = (eX0_place ret F n 10 [v0, v1, v2] (.int (-1) :: st) h 0 0) := (amWp_dec rfl dX0_place_9 rfl).trans rfl
theorem wX0_place_10 {ret F n h} {v0 v1 v2 x} : eX0_place ret F (n + 1) 10 [v0, v1, v2] ([.int x]) h 0 0 = (ret (some (.int x)) h 0 0) := (amWp_dec rfl dX0_place_10 rfl).trans (amTrue ⟨_, rfl, rfl⟩)
theorem wX0_place_11 {ret F n h} {v0 v1 v2 st} : eX0_place ret F (n + 1) 11 [v0, v1, v2] (st) h 0 0 = (amIsR v0 ∧ eX0_place ret F n 12 [v0, v1, v2] (v0 :: st) h 0 0) := (amWp_dec rfl dX0_place_11 rfl).trans rfl
theorem wX0_place_12 {ret F n h} {v0 v1 v2 st} : eX0_place ret F (n + 1) 12 [v0, v1, v2] (st) h 0 0 = (amIsR v0 ∧ eX0_place ret F n 13 [v0, v1, v2] (v0 :: st) h 0 0) := (amWp_dec rfl dX0_place_12 rfl).trans rfl
theorem wX0_place_13 {ret F n h} {v0 v1 v2 r0 a} : eX0_place ret F (n + 1) 13 [v0, v1, v2] (.ref a :: r0 :: []) h 0 0 = (h.1 a = (0, 0) ∧ eX0_place ret F n 16 [v0, v1, v2] (va_rf (h.2.2.2.1 a 0) :: r0 :: []) h 0 0) := (amWp_dec rfl dX0_place_13 rfl).trans (amS4 (Nat.le_of_ble_eq_true rfl) (Nat.le_of_ble_eq_true rfl) (Nat.le_of_ble_eq_true rfl) (Nat.le_of_ble_eq_true rfl))
theorem wX0_place_16 {ret F n h} {v0 v1 v2 r0 a} : eX0_place ret F (n + 1) 16 [v0, v1, v2] (.ref a :: r0 :: []) h 0 0 = (h.1 a = (0, 1) ∧ eX0_place ret F n 19 [v0, v1, v2] (va_rf (h.2.2.2.1 a 2) :: r0 :: []) h 0 0) := (amWp_dec rfl dX0_place_16 rfl).trans (amS4 (Nat.le_of_ble_eq_true rfl) (Nat.le_of_ble_eq_true rfl) (Nat.le_of_ble_eq_true rfl) (Nat.le_of_ble_eq_true rfl))
theorem wX0_place_19 {ret F n h} {v0 v1 v2 st} : eX0_place ret F (n + 1) 19 [v0, v1, v2] (st) h 0 0 = (eX0_place ret F n 20 [v0, v1, v2] (.int (nI 0) :: st) h 0 0) := (amWp_dec rfl dX0_place_19 rfl).trans rfl
theorem wX0_place_20 {ret F n h} {v0 v1 v2 x2 x1 x0} : eX0_place ret F (n + 1) 20 [v0, v1, v2] (.int x2 :: .ref x1 :: .ref x0 :: []) h 0 0 = (h.1 x0 = (0, 0) ∧ tX0_go [.ref x0, .ref x1, .int x2] h (fun v h => eX0_place ret F n 23 [v0, v1, v2] (v.toList ++ ([])) h 0 0)) := (amWp_dec rfl dX0_place_20 rfl).trans (amS4 (Nat.le_of_ble_eq_true rfl) (Nat.le_of_ble_eq_true rfl) (Nat.le_of_ble_eq_true rfl) (Nat.le_of_ble_eq_true rfl))
theorem wX0_place_23 {ret F n ls st h k z} : eX0_place ret F (n + 1) 23 ls st h k z = F 23 ls st h k z := amWp_cut rfl
theorem uX0_place_23 {ret F n h} {v0 v1 st x} : sX0_place ret F n 23 [v0, v1, .int x] (st) h 0 0 = (eX0_place ret F n 24 [v0, v1, .int x] (.int x :: st) h 0 0) := (amWs_dec dX0_place_23 rfl).trans rfl
theorem wX0_place_24 {ret F n h} {v0 v1 v2 st x} : eX0_place ret F (n + 1) 24 [v0, v1, v2] (.int x :: st) h 0 0 = ((x = nI 0 → eX0_place ret F n 68 [v0, v1, v2] (st) h 0 0) ∧ (¬ x = nI 0 → (x = nI 1 → eX0_place ret F n 80 [v0, v1, v2] (st) h 0 0) ∧ (¬ x = nI 1 → (x = nI 2 → eX0_place ret F n 90 [v0, v1, v2] (st) h 0 0) ∧ (¬ x = nI 2 → (x = nI 3 → eX0_place ret F n 100 [v0, v1, v2] (st) h 0 0) ∧ (¬ x = nI 3 → (x = nI 4 → eX0_place ret F n 110 [v0, v1, v2] (st) h 0 0) ∧ (¬ x = nI 4 → (x = nI 5 → eX0_place ret F n 117 [v0, v1, v2] (st) h 0 0) ∧ (¬ x = nI 5 → (x = nI 6 → eX0_place ret F n 124 [v0, v1, v2] (st) h 0 0) ∧ (¬ x = nI 6 → eX0_place ret F n 131 [v0, v1, v2] (st) h 0 0)))))))) := (amWp_dec rfl dX0_place_24 rfl).trans (amS2 (by decide +kernel) (by decide +kernel))
theorem wX0_place_68 {ret F n h} {v0 v1 v2 st} : eX0_place ret F (n + 1) 68 [v0, v1, v2] (st) h 0 0 = (amIsR v0 ∧ eX0_place ret F n 69 [v0, v1, v2] (v0 :: st) h 0 0) := (amWp_dec rfl dX0_place_68 rfl).trans rfl
theorem wX0_place_69 {ret F n h} {v0 v1 v2 a} : eX0_place ret F (n + 1) 69 [v0, v1, v2] (.ref a :: []) h 0 0 = (h.1 a = (0, 0) ∧ eX0_place ret F n 72 [v0, v1, v2] (va_rf (h.2.2.2.1 a 0) :: []) h 0 0) := (amWp_dec rfl dX0_place_69 rfl).trans (amS4 (Nat.le_of_ble_eq_true rfl) (Nat.le_of_ble_eq_true rfl) (Nat.le_of_ble_eq_true rfl) (Nat.le_of_ble_eq_true rfl))
theorem wX0_place_72 {ret F n h} {v0 v1 v2 a} : eX0_place ret F (n + 1) 72 [v0, v1, v2] (.ref a :: []) h 0 0 = (h.1 a = (0, 1) ∧ eX0_place ret F n 75 [v0, v1, v2] (va_rf (h.2.2.2.1 a 2) :: []) h 0 0) := (amWp_dec rfl dX0_place_72 rfl).trans (amS4 (Nat.le_of_ble_eq_true rfl) (Nat.le_of_ble_eq_true rfl) (Nat.le_of_ble_eq_true rfl) (Nat.le_of_ble_eq_true rfl))
theorem wX0_place_75 {ret F n h} {v0 v2 st x} : eX0_place ret F (n + 1) 75 [v0, .int x, v2] (st) h 0 0 = (eX0_place ret F n 76 [v0, .int x, v2] (.int x :: st) h 0 0) := (amWp_dec rfl dX0_place_75 rfl).trans rfl
theorem wX0_place_76 {ret F n h} {v0 v1 v2 x1 x0} : eX0_place ret F (n + 1) 76 [v0, v1, v2] (.int x1 :: .ref x0 :: []) h 0 0 = (h.1 x0 = (0, 2) ∧ tX2_at [.ref x0, .int x1] h (fun v h => eX0_place ret F n 79 [v0, v1, v2] (v.toList ++ ([])) h 0 0)) := (amWp_dec rfl dX0_place_76 rfl).trans (amS4 (Nat.le_of_ble_eq_true rfl) (Nat.le_of_ble_eq_true rfl) (Nat.le_of_ble_eq_true rfl) (Nat.le_of_ble_eq_true rfl))
theorem wX0_place_79 {ret F n h} {v0 v1 v2 x} : eX0_place ret F (n + 1) 79 [v0, v1, v2] ([.int x]) h 0 0 = (ret (some (.int x)) h 0 0) := (amWp_dec rfl dX0_place_79 rfl).trans (amTrue ⟨_, rfl, rfl⟩)
theorem wX0_place_80 {ret F n h} {v0 v1 v2 st} : eX0_place ret F (n + 1) 80 [v0, v1, v2] (st) h 0 0 = (amIsR v0 ∧ eX0_place ret F n 81 [v0, v1, v2] (v0 :: st) h 0 0) := (amWp_dec rfl dX0_place_80 rfl).trans rfl
theorem wX0_place_81 {ret F n h} {v0 v1 v2 a} : eX0_place ret F (n + 1) 81 [v0, v1, v2] (.ref a :: []) h 0 0 = (h.1 a = (0, 0) ∧ eX0_place ret F n 84 [v0, v1, v2] (va_rf (h.2.2.2.1 a 4) :: []) h 0 0) := (amWp_dec rfl dX0_place_81 rfl).trans (amS4 (Nat.le_of_ble_eq_true rfl) (Nat.le_of_ble_eq_true rfl) (Nat.le_of_ble_eq_true rfl) (Nat.le_of_ble_eq_true rfl))
theorem wX0_place_84 {ret F n h} {v0 v2 st x} : eX0_place ret F (n + 1) 84 [v0, .int x, v2] (st) h 0 0 = (eX0_place ret F n 85 [v0, .int x, v2] (.int x :: st) h 0 0) := (amWp_dec rfl dX0_place_84 rfl).trans rfl
theorem wX0_place_85 {ret F n h} {v0 v1 v2 st x a} : eX0_place ret F (n + 1) 85 [v0, v1, v2] (.int x :: .ref a :: st) h 0 0 = ((h.1 a).1 = 1 ∧ vp_in x (h.1 a).2 ∧ eX0_place ret F n 86 [v0, v1, v2] (.int (h.2.1 a x.toNatClampNeg) :: st) h 0 0) := (amWp_dec rfl dX0_place_85 rfl).trans rfl
theorem wX0_place_86 {ret F n h} {v0 v1 v2 x0} : eX0_place ret F (n + 1) 86 [v0, v1, v2] (.int x0 :: []) h 0 0 = (tJ2_bitCount [.int x0] h (fun v h => eX0_place ret F n 89 [v0, v1, v2] (v.toList ++ ([])) h 0 0)) := (amWp_dec rfl dX0_place_86 rfl).trans (amS4 (Nat.le_of_ble_eq_true rfl) (Nat.le_of_ble_eq_true rfl) (Nat.le_of_ble_eq_true rfl) (Nat.le_of_ble_eq_true rfl))
theorem wX0_place_89 {ret F n h} {v0 v1 v2 x} : eX0_place ret F (n + 1) 89 [v0, v1, v2] ([.int x]) h 0 0 = (ret (some (.int x)) h 0 0) := (amWp_dec rfl dX0_place_89 rfl).trans (amTrue ⟨_, rfl, rfl⟩)
theorem wX0_place_90 {ret F n h} {v0 v1 v2 st} : eX0_place ret F (n + 1) 90 [v0, v1, v2] (st) h 0 0 = (amIsR v0 ∧ eX0_place ret F n 91 [v0, v1, v2] (v0 :: st) h 0 0) := (amWp_dec rfl dX0_place_90 rfl).trans rfl
theorem wX0_place_91 {ret F n h} {v0 v1 v2 a} : eX0_place ret F (n + 1) 91 [v0, v1, v2] (.ref a :: []) h 0 0 = (h.1 a = (0, 0) ∧ eX0_place ret F n 94 [v0, v1, v2] (va_rf (h.2.2.2.1 a 5) :: []) h 0 0) := (amWp_dec rfl dX0_place_91 rfl).trans (amS4 (Nat.le_of_ble_eq_true rfl) (Nat.le_of_ble_eq_true rfl) (Nat.le_of_ble_eq_true rfl) (Nat.le_of_ble_eq_true rfl))
theorem wX0_place_94 {ret F n h} {v0 v2 st x} : eX0_place ret F (n + 1) 94 [v0, .int x, v2] (st) h 0 0 = (eX0_place ret F n 95 [v0, .int x, v2] (.int x :: st) h 0 0) := (amWp_dec rfl dX0_place_94 rfl).trans rfl
theorem wX0_place_95 {ret F n h} {v0 v1 v2 st x a} : eX0_place ret F (n + 1) 95 [v0, v1, v2] (.int x :: .ref a :: st) h 0 0 = ((h.1 a).1 = 1 ∧ vp_in x (h.1 a).2 ∧ eX0_place ret F n 96 [v0, v1, v2] (.int (h.2.1 a x.toNatClampNeg) :: st) h 0 0) := (amWp_dec rfl dX0_place_95 rfl).trans rfl
theorem wX0_place_96 {ret F n h} {v0 v1 v2 x0} : eX0_place ret F (n + 1) 96 [v0, v1, v2] (.int x0 :: []) h 0 0 = (tJ2_bitCount [.int x0] h (fun v h => eX0_place ret F n 99 [v0, v1, v2] (v.toList ++ ([])) h 0 0)) := (amWp_dec rfl dX0_place_96 rfl).trans (amS4 (Nat.le_of_ble_eq_true rfl) (Nat.le_of_ble_eq_true rfl) (Nat.le_of_ble_eq_true rfl) (Nat.le_of_ble_eq_true rfl))
theorem wX0_place_99 {ret F n h} {v0 v1 v2 x} : eX0_place ret F (n + 1) 99 [v0, v1, v2] ([.int x]) h 0 0 = (ret (some (.int x)) h 0 0) := (amWp_dec rfl dX0_place_99 rfl).trans (amTrue ⟨_, rfl, rfl⟩)
theorem wX0_place_100 {ret F n h} {v0 v1 v2 st} : eX0_place ret F (n + 1) 100 [v0, v1, v2] (st) h 0 0 = (amIsR v0 ∧ eX0_place ret F n 101 [v0, v1, v2] (v0 :: st) h 0 0) := (amWp_dec rfl dX0_place_100 rfl).trans rfl
theorem wX0_place_101 {ret F n h} {v0 v1 v2 a} : eX0_place ret F (n + 1) 101 [v0, v1, v2] (.ref a :: []) h 0 0 = (h.1 a = (0, 0) ∧ eX0_place ret F n 104 [v0, v1, v2] (va_rf (h.2.2.2.1 a 6) :: []) h 0 0) := (amWp_dec rfl dX0_place_101 rfl).trans (amS4 (Nat.le_of_ble_eq_true rfl) (Nat.le_of_ble_eq_true rfl) (Nat.le_of_ble_eq_true rfl) (Nat.le_of_ble_eq_true rfl))
theorem wX0_place_104 {ret F n h} {v0 v2 st x} : eX0_place ret F (n + 1) 104 [v0, .int x, v2] (st) h 0 0 = (eX0_place ret F n 105 [v0, .int x, v2] (.int x :: st) h 0 0) := (amWp_dec rfl dX0_place_104 rfl).trans rfl
theorem wX0_place_105 {ret F n h} {v0 v1 v2 st x a} : eX0_place ret F (n + 1) 105 [v0, v1, v2] (.int x :: .ref a :: st) h 0 0 = ((h.1 a).1 = 1 ∧ vp_in x (h.1 a).2 ∧ eX0_place ret F n 106 [v0, v1, v2] (.int (h.2.1 a x.toNatClampNeg) :: st) h 0 0) := (amWp_dec rfl dX0_place_105 rfl).trans rfl
theorem wX0_place_106 {ret F n h} {v0 v1 v2 x0} : eX0_place ret F (n + 1) 106 [v0, v1, v2] (.int x0 :: []) h 0 0 = (tJ2_bitCount [.int x0] h (fun v h => eX0_place ret F n 109 [v0, v1, v2] (v.toList ++ ([])) h 0 0)) := (amWp_dec rfl dX0_place_106 rfl).trans (amS4 (Nat.le_of_ble_eq_true rfl) (Nat.le_of_ble_eq_true rfl) (Nat.le_of_ble_eq_true rfl) (Nat.le_of_ble_eq_true rfl))
theorem wX0_place_109 {ret F n h} {v0 v1 v2 x} : eX0_place ret F (n + 1) 109 [v0, v1, v2] ([.int x]) h 0 0 = (ret (some (.int x)) h 0 0) := (amWp_dec rfl dX0_place_109 rfl).trans (amTrue ⟨_, rfl, rfl⟩)
theorem wX0_place_110 {ret F n h} {v0 v1 v2 st} : eX0_place ret F (n + 1) 110 [v0, v1, v2] (st) h 0 0 = (amIsR v0 ∧ eX0_place ret F n 111 [v0, v1, v2] (v0 :: st) h 0 0) := (amWp_dec rfl dX0_place_110 rfl).trans rfl
theorem wX0_place_111 {ret F n h} {v0 v1 v2 a} : eX0_place ret F (n + 1) 111 [v0, v1, v2] (.ref a :: []) h 0 0 = (h.1 a = (0, 0) ∧ eX0_place ret F n 114 [v0, v1, v2] (va_rf (h.2.2.2.1 a 4) :: []) h 0 0) := (amWp_dec rfl dX0_place_111 rfl).trans (amS4 (Nat.le_of_ble_eq_true rfl) (Nat.le_of_ble_eq_true rfl) (Nat.le_of_ble_eq_true rfl) (Nat.le_of_ble_eq_true rfl))
theorem wX0_place_114 {ret F n h} {v0 v2 st x} : eX0_place ret F (n + 1) 114 [v0, .int x, v2] (st) h 0 0 = (eX0_place ret F n 115 [v0, .int x, v2] (.int x :: st) h 0 0) := (amWp_dec rfl dX0_place_114 rfl).trans rfl
theorem wX0_place_115 {ret F n h} {v0 v1 v2 st x a} : eX0_place ret F (n + 1) 115 [v0, v1, v2] (.int x :: .ref a :: st) h 0 0 = ((h.1 a).1 = 1 ∧ vp_in x (h.1 a).2 ∧ eX0_place ret F n 116 [v0, v1, v2] (.int (h.2.1 a x.toNatClampNeg) :: st) h 0 0) := (amWp_dec rfl dX0_place_115 rfl).trans rfl
theorem wX0_place_116 {ret F n h} {v0 v1 v2 x} : eX0_place ret F (n + 1) 116 [v0, v1, v2] ([.int x]) h 0 0 = (ret (some (.int x)) h 0 0) := (amWp_dec rfl dX0_place_116 rfl).trans (amTrue ⟨_, rfl, rfl⟩)
theorem wX0_place_117 {ret F n h} {v0 v1 v2 st} : eX0_place ret F (n + 1) 117 [v0, v1, v2] (st) h 0 0 = (amIsR v0 ∧ eX0_place ret F n 118 [v0, v1, v2] (v0 :: st) h 0 0) := (amWp_dec rfl dX0_place_117 rfl).trans rfl
theorem wX0_place_118 {ret F n h} {v0 v1 v2 a} : eX0_place ret F (n + 1) 118 [v0, v1, v2] (.ref a :: []) h 0 0 = (h.1 a = (0, 0) ∧ eX0_place ret F n 121 [v0, v1, v2] (va_rf (h.2.2.2.1 a 6) :: []) h 0 0) := (amWp_dec rfl dX0_place_118 rfl).trans (amS4 (Nat.le_of_ble_eq_true rfl) (Nat.le_of_ble_eq_true rfl) (Nat.le_of_ble_eq_true rfl) (Nat.le_of_ble_eq_true rfl))
theorem wX0_place_121 {ret F n h} {v0 v2 st x} : eX0_place ret F (n + 1) 121 [v0, .int x, v2] (st) h 0 0 = (eX0_place ret F n 122 [v0, .int x, v2] (.int x :: st) h 0 0) := (amWp_dec rfl dX0_place_121 rfl).trans rfl
theorem wX0_place_122 {ret F n h} {v0 v1 v2 st x a} : eX0_place ret F (n + 1) 122 [v0, v1, v2] (.int x :: .ref a :: st) h 0 0 = ((h.1 a).1 = 1 ∧ vp_in x (h.1 a).2 ∧ eX0_place ret F n 123 [v0, v1, v2] (.int (h.2.1 a x.toNatClampNeg) :: st) h 0 0) := (amWp_dec rfl dX0_place_122 rfl).trans rfl
theorem wX0_place_123 {ret F n h} {v0 v1 v2 x} : eX0_place ret F (n + 1) 123 [v0, v1, v2] ([.int x]) h 0 0 = (ret (some (.int x)) h 0 0) := (amWp_dec rfl dX0_place_123 rfl).trans (amTrue ⟨_, rfl, rfl⟩)
theorem wX0_place_124 {ret F n h} {v0 v1 v2 st} : eX0_place ret F (n + 1) 124 [v0, v1, v2] (st) h 0 0 = (amIsR v0 ∧ eX0_place ret F n 125 [v0, v1, v2] (v0 :: st) h 0 0) := (amWp_dec rfl dX0_place_124 rfl).trans rfl
theorem wX0_place_125 {ret F n h} {v0 v1 v2 a} : eX0_place ret F (n + 1) 125 [v0, v1, v2] (.ref a :: []) h 0 0 = (h.1 a = (0, 0) ∧ eX0_place ret F n 128 [v0, v1, v2] (va_rf (h.2.2.2.1 a 7) :: []) h 0 0) := (amWp_dec rfl dX0_place_125 rfl).trans (amS4 (Nat.le_of_ble_eq_true rfl) (Nat.le_of_ble_eq_true rfl) (Nat.le_of_ble_eq_true rfl) (Nat.le_of_ble_eq_true rfl))
theorem wX0_place_128 {ret F n h} {v0 v2 st x} : eX0_place ret F (n + 1) 128 [v0, .int x, v2] (st) h 0 0 = (eX0_place ret F n 129 [v0, .int x, v2] (.int x :: st) h 0 0) := (amWp_dec rfl dX0_place_128 rfl).trans rfl
theorem wX0_place_129 {ret F n h} {v0 v1 v2 st x a} : eX0_place ret F (n + 1) 129 [v0, v1, v2] (.int x :: .ref a :: st) h 0 0 = ((h.1 a).1 = 1 ∧ vp_in x (h.1 a).2 ∧ eX0_place ret F n 130 [v0, v1, v2] (.int (h.2.1 a x.toNatClampNeg) :: st) h 0 0) := (amWp_dec rfl dX0_place_129 rfl).trans rfl
theorem wX0_place_130 {ret F n h} {v0 v1 v2 x} : eX0_place ret F (n + 1) 130 [v0, v1, v2] ([.int x]) h 0 0 = (ret (some (.int x)) h 0 0) := (amWp_dec rfl dX0_place_130 rfl).trans (amTrue ⟨_, rfl, rfl⟩)
theorem wX0_place_131 {ret F n h} {v0 v1 v2 st} : eX0_place ret F (n + 1) 131 [v0, v1, v2] (st) h 0 0 = (eX0_place ret F n 132 [v0, v1, v2] (.int (-1) :: st) h 0 0) := (amWp_dec rfl dX0_place_131 rfl).trans rfl
theorem wX0_place_132 {ret F n h} {v0 v1 v2 x} : eX0_place ret F (n + 1) 132 [v0, v1, v2] ([.int x]) h 0 0 = (ret (some (.int x)) h 0 0) := (amWp_dec rfl dX0_place_132 rfl).trans (amTrue ⟨_, rfl, rfl⟩)
theorem evX0_place (l : Launch) (G : amG) : ∀ pc S i sz, amLk rX0_place pc = some S → decode cX0_place pc = .ok (i, sz) → amSiteP pc G l yX0_place.cls yX0_place.name yX0_place.desc (amRm 6 0 0) i sz S.1 S.2.1 S.2.2.1 S.2.2.2 := amLk_ok (by
  refine List.forall_mem_cons.mpr ⟨⟨_, _, dX0_place_3, amSite.P (amSiteV (C := RX0) (metX0_isBook l G) rfl (by decide) (by decide) (lw_V q549 q551 qs20 q86 q552) ⟨_, rfl, rfl⟩ ⟨rfl, by decide +kernel, by decide +kernel, by decide +kernel⟩)⟩, ?_⟩
  refine List.forall_mem_cons.mpr ⟨⟨_, _, dX0_place_13, amSite.P (amSiteGet ⟨_, rfl, by decide, Or.inl q301⟩)⟩, ?_⟩
  refine List.forall_mem_cons.mpr ⟨⟨_, _, dX0_place_16, amSite.P (amSiteGet ⟨_, rfl, by decide, Or.inr ⟨"ReadingStages", List.mem_of_getElem? (i := 4) rfl⟩⟩)⟩, ?_⟩
  refine List.forall_mem_cons.mpr ⟨⟨_, _, dX0_place_20, amSite.P (amSiteV (C := RX0) (metX0_go l G) rfl (by decide) (by decide) (lw_V q423 q425 qs7 q86 q426) ⟨_, rfl, rfl⟩ ⟨rfl, by decide +kernel, by decide +kernel, by decide +kernel⟩)⟩, ?_⟩
  refine List.forall_mem_cons.mpr ⟨⟨_, _, dX0_place_69, amSite.P (amSiteGet ⟨_, rfl, by decide, Or.inl q301⟩)⟩, ?_⟩
  refine List.forall_mem_cons.mpr ⟨⟨_, _, dX0_place_72, amSite.P (amSiteGet ⟨_, rfl, by decide, Or.inr ⟨"ReadingStages", List.mem_of_getElem? (i := 4) rfl⟩⟩)⟩, ?_⟩
  refine List.forall_mem_cons.mpr ⟨⟨_, _, dX0_place_76, amSite.P (amSiteV (C := RX2) (metX2_at l G) rfl (by decide) (by decide) (lw_V q512 q420 q1718 q88 q422) ⟨_, rfl, rfl⟩ ⟨rfl, by decide +kernel, by decide +kernel, by decide +kernel⟩)⟩, ?_⟩
  refine List.forall_mem_cons.mpr ⟨⟨_, _, dX0_place_81, amSite.P (amSiteGet ⟨_, rfl, by decide, Or.inl q305⟩)⟩, ?_⟩
  refine List.forall_mem_cons.mpr ⟨⟨_, _, dX0_place_86, amSite.P (amSiteS (metJ2_bitCount l G) rfl (by decide) (by decide) (lw_S q454 q455 q97 q456) ⟨by decide +kernel, by decide +kernel, by decide +kernel⟩)⟩, ?_⟩
  refine List.forall_mem_cons.mpr ⟨⟨_, _, dX0_place_91, amSite.P (amSiteGet ⟨_, rfl, by decide, Or.inl q306⟩)⟩, ?_⟩
  refine List.forall_mem_cons.mpr ⟨⟨_, _, dX0_place_96, amSite.P (amSiteS (metJ2_bitCount l G) rfl (by decide) (by decide) (lw_S q454 q455 q97 q456) ⟨by decide +kernel, by decide +kernel, by decide +kernel⟩)⟩, ?_⟩
  refine List.forall_mem_cons.mpr ⟨⟨_, _, dX0_place_101, amSite.P (amSiteGet ⟨_, rfl, by decide, Or.inl q307⟩)⟩, ?_⟩
  refine List.forall_mem_cons.mpr ⟨⟨_, _, dX0_place_106, amSite.P (amSiteS (metJ2_bitCount l G) rfl (by decide) (by decide) (lw_S q454 q455 q97 q456) ⟨by decide +kernel, by decide +kernel, by decide +kernel⟩)⟩, ?_⟩
  refine List.forall_mem_cons.mpr ⟨⟨_, _, dX0_place_111, amSite.P (amSiteGet ⟨_, rfl, by decide, Or.inl q305⟩)⟩, ?_⟩
  refine List.forall_mem_cons.mpr ⟨⟨_, _, dX0_place_118, amSite.P (amSiteGet ⟨_, rfl, by decide, Or.inl q307⟩)⟩, ?_⟩
  refine List.forall_mem_cons.mpr ⟨⟨_, _, dX0_place_125, amSite.P (amSiteGet ⟨_, rfl, by decide, Or.inl q308⟩)⟩, ?_⟩
  exact fun _ h => absurd h List.not_mem_nil)
theorem goX0_place {ret F} (hF : amCld cX0_place kX0_place (amLk rX0_place) (some .int) 0 0 ret F) (n : Nat) {pc ls st h k z} (q : sX0_place ret F n pc ls st h k z) : F pc ls st h k z := hF.1 n pc ls st h k z q
theorem metX0_place (l : Launch) (G : amG) : amMet l G yX0_place (ws_ yX0_place cX0_place 3 (some .int)) 6 0 0 tX0_place := by
  refine amMet_of (cut := kX0_place) (by decide +kernel) (evX0_place l G) ?_
  intro as h K hT
  match as, hT with
  | [.ref a, .int x, .int w], ⟨S, e1, hA, hK⟩ =>
  refine ⟨Nat.le_of_ble_eq_true rfl, fun F hF => ?_⟩
  show F 0 [.ref a, .int x, .int w] [] h 0 0
  obtain ⟨a, rfl⟩ : ∃ i : Nat, i = a := ⟨_, rfl⟩
  subst e1
  have hR := hA.1
  have hS := hA.2.1
  have n7 := hS.n7
  have hm := hS.many
  have hnow := hR.now.2.2.2.2.2.2
  refine goX0_place hF 60 ?_
  simp (disch := omega) only [wX0_place_0, uX0_place_0, wX0_place_1, wX0_place_2, wX0_place_3, wX0_place_6, wX0_place_9, wX0_place_10, wX0_place_11, wX0_place_12, wX0_place_13, wX0_place_16, wX0_place_19, wX0_place_20, wX0_place_23, uX0_place_23, wX0_place_24, wX0_place_68, wX0_place_69, wX0_place_72, wX0_place_75, wX0_place_76, wX0_place_79, wX0_place_80, wX0_place_81, wX0_place_84, wX0_place_85, wX0_place_86, wX0_place_89, wX0_place_90, wX0_place_91, wX0_place_94, wX0_place_95, wX0_place_96, wX0_place_99, wX0_place_100, wX0_place_101, wX0_place_104, wX0_place_105, wX0_place_106, wX0_place_109, wX0_place_110, wX0_place_111, wX0_place_114, wX0_place_115, wX0_place_116, wX0_place_117, wX0_place_118, wX0_place_121, wX0_place_122, wX0_place_123, wX0_place_124, wX0_place_125, wX0_place_128, wX0_place_129, wX0_place_130, wX0_place_131, wX0_place_132, amSI_1, amSI_2, amSI_3, amSI_s, amU_at, amIsR_ref, amIsR_null, amIsR_rf, amRf_some, amRf_none, amClr_int, amClr_ref, amClr_null, amClr_long, amClr_ra, amClr_rf, amFit_int, amFit_oref, amFit_aref, amFit_onull, amFit_anull, amOptSome, amOptNone, List.cons_append, List.nil_append, true_and, and_true, true_implies, not_true_eq_false, not_false_eq_true, false_implies, and_self, Nat.add_zero, Nat.zero_add, ne_eq, Prod.mk.injEq, amC01_0, amC01_1, amC01_nb, amNb0, amNb1, amTcpI_d, Nat.reduceLeDiff, Nat.reduceAdd, Nat.reduceSub, Nat.reduceEqDiff, Nat.le_refl, amN0le, hR.s, hR.r, tX0_isBook_d, hm, isBk n7, hR]
  refine ⟨fun q => goPre hA 0 (by decide) (fun m' q1 q2 => ?_), fun q => ?_⟩
  · obtain ⟨j, hj, rfl⟩ := Classical.not_not.mp q
    have len := S.rd_len S.ord 0
    have pl := q1.2 j (by rw [len]; exact hj)
    have bd := rdOf_pl (span := S.span) (rule := S.rule) (prior := S.prior) (wsOf S S.ord 0) _ (pl_at (p := j) (by rw [rdOf_len, wsOf_len]; exact hj))
    have mo : m' 29 j = nI (S.ord.getD j 0) := by rw [q2 29 (by decide)]; exact hS.ord.2.2.2 j hj
    have key := hK m' q2
    rw [placeA_in hj n7] at key
    have e9 : (rdOf S.span S.rule S.prior (wsOf S S.ord 0)).2 = (S.rd S.ord 0).2 := rfl
    rw [e9] at bd
    obtain ⟨b1, b2, b3, b4⟩ := bd
    obtain ⟨p1, p2, p3, p4⟩ := pl
    refine goX0_place hF 60 ?_
    simp (disch := omega) only [wX0_place_0, uX0_place_0, wX0_place_1, wX0_place_2, wX0_place_3, wX0_place_6, wX0_place_9, wX0_place_10, wX0_place_11, wX0_place_12, wX0_place_13, wX0_place_16, wX0_place_19, wX0_place_20, wX0_place_23, uX0_place_23, wX0_place_24, wX0_place_68, wX0_place_69, wX0_place_72, wX0_place_75, wX0_place_76, wX0_place_79, wX0_place_80, wX0_place_81, wX0_place_84, wX0_place_85, wX0_place_86, wX0_place_89, wX0_place_90, wX0_place_91, wX0_place_94, wX0_place_95, wX0_place_96, wX0_place_99, wX0_place_100, wX0_place_101, wX0_place_104, wX0_place_105, wX0_place_106, wX0_place_109, wX0_place_110, wX0_place_111, wX0_place_114, wX0_place_115, wX0_place_116, wX0_place_117, wX0_place_118, wX0_place_121, wX0_place_122, wX0_place_123, wX0_place_124, wX0_place_125, wX0_place_128, wX0_place_129, wX0_place_130, wX0_place_131, wX0_place_132, amSI_1, amSI_2, amSI_3, amSI_s, amU_at, amIsR_ref, amIsR_null, amIsR_rf, amRf_some, amRf_none, amClr_int, amClr_ref, amClr_null, amClr_long, amClr_ra, amClr_rf, amFit_int, amFit_oref, amFit_aref, amFit_onull, amFit_anull, amOptSome, amOptNone, List.cons_append, List.nil_append, true_and, and_true, true_implies, not_true_eq_false, not_false_eq_true, false_implies, and_self, Nat.add_zero, Nat.zero_add, ne_eq, Prod.mk.injEq, amC01_0, amC01_1, amC01_nb, amNb0, amNb1, amTcpI_d, Nat.reduceLeDiff, Nat.reduceAdd, Nat.reduceSub, Nat.reduceEqDiff, Nat.le_refl, amN0le, hR.s, hR.r, tX2_at_d, hnow, bdAt, hnow.1, hnow.2.1, hnow.2.2, amVI, amCl_nI, mo, p1, p2, p3, p4, bitCountN]
    refine ⟨fun z0 => ?_, fun z0 => ⟨fun z1 => ?_, fun z1 => ⟨fun z2 => ?_, fun z2 => ⟨fun z3 => ?_, fun z3 => ⟨fun z4 => ?_, fun z4 => ⟨fun z5 => ?_, fun z5 => ⟨fun z6 => ?_, fun z6 => ?_⟩⟩⟩⟩⟩⟩⟩
    · rw [placeV, if_pos z0] at key
      exact amRet.of (by decide) (by decide) key
    · rw [placeV, if_neg z0, if_pos z1] at key
      exact amRet.of (by decide) (by decide) key
    · rw [placeV, if_neg z0, if_neg z1, if_pos z2] at key
      exact amRet.of (by decide) (by decide) key
    · rw [placeV, if_neg z0, if_neg z1, if_neg z2, if_pos z3] at key
      exact amRet.of (by decide) (by decide) key
    · rw [placeV, if_neg z0, if_neg z1, if_neg z2, if_neg z3, if_pos z4] at key
      exact amRet.of (by decide) (by decide) key
    · rw [placeV, if_neg z0, if_neg z1, if_neg z2, if_neg z3, if_neg z4, if_pos z5] at key
      exact amRet.of (by decide) (by decide) key
    · rw [placeV, if_neg z0, if_neg z1, if_neg z2, if_neg z3, if_neg z4, if_neg z5, if_pos z6] at key
      exact amRet.of (by decide) (by decide) key
    · rw [placeV, if_neg z0, if_neg z1, if_neg z2, if_neg z3, if_neg z4, if_neg z5, if_neg z6] at key
      exact amRet.of (by decide) (by decide) key
  · have key := hK h.2.1 (fun _ _ => rfl)
    rw [placeA_out q] at key
    exact amRet.of (by decide) (by decide) key
theorem tX0_place_d {a : Nat} {x w : Int32} {h : amH} {K : Option Value → amH → Prop} : tX0_place [.ref a, .int x, .int w] h K = ∃ S : HS, a = (24 : Nat) ∧ sysPre h S ∧ ∀ m', rdFr h.2.1 m' → K (some (.int (placeA S x w))) (amSI h m') := rfl
/-- at how many places a word is -/
def timesN (f : Nat → Nat) (w n : Nat) : Nat := cntB (fun p => (f p).testBit w) n
def tX0_times : amT := fun as h K => match as with
  | [.ref a, .ref c, .int w0] => ∃ (n : Nat) (f : Nat → Nat) (w : Nat), a = (24 : Nat) ∧ rsAt h ∧ w0 = nI w ∧ w < 20 ∧ h.2.1 28 1 = nI n ∧ n ≤ 7 ∧ h.1 c = (1, 7) ∧ (∀ p : Nat, p < n → h.2.1 c p = nI (f p) ∧ f p < 1048576) ∧ K (some (.int (nI (timesN f w n)))) h
  | _ => False
/-! ReadingStages.times([II)I -/
def kX0_times : Nat → Bool := fun pc => pc == 5
def rX0_times : List (Nat × amS) := [(8, 1, 0, 0, amTget 0 0), (11, 1, 0, 0, (amRecv 1 tX1_many)), (23, 2, 0, 0, tX0_has)]
def eX0_times (ret : Option Value → amH → Nat → Nat → Prop) (F : amX) : Nat → amX := amWp cX0_times kX0_times (amLk rX0_times) (some .int) 0 0 ret F
def sX0_times (ret : Option Value → amH → Nat → Nat → Prop) (F : amX) : Nat → amX := amWs cX0_times kX0_times (amLk rX0_times) (some .int) 0 0 ret F
theorem wX0_times_0 {ret F n h} {v0 v1 v2 v3 v4 st} : eX0_times ret F (n + 1) 0 [v0, v1, v2, v3, v4] (st) h 0 0 = (eX0_times ret F n 1 [v0, v1, v2, v3, v4] (.int (nI 0) :: st) h 0 0) := (amWp_dec rfl dX0_times_0 rfl).trans rfl
theorem uX0_times_0 {ret F n h} {v0 v1 v2 v3 v4 st} : sX0_times ret F n 0 [v0, v1, v2, v3, v4] (st) h 0 0 = (eX0_times ret F n 1 [v0, v1, v2, v3, v4] (.int (nI 0) :: st) h 0 0) := (amWs_dec dX0_times_0 rfl).trans rfl
theorem wX0_times_1 {ret F n h} {v0 v1 v2 v3 v4 st x} : eX0_times ret F (n + 1) 1 [v0, v1, v2, v3, v4] (.int x :: st) h 0 0 = (eX0_times ret F n 2 [v0, v1, amClr v2, .int x, v4] (st) h 0 0) := (amWp_dec rfl dX0_times_1 rfl).trans (amTrue (Nat.le_of_ble_eq_true rfl))
theorem wX0_times_2 {ret F n h} {v0 v1 v2 v3 v4 st} : eX0_times ret F (n + 1) 2 [v0, v1, v2, v3, v4] (st) h 0 0 = (eX0_times ret F n 3 [v0, v1, v2, v3, v4] (.int (nI 0) :: st) h 0 0) := (amWp_dec rfl dX0_times_2 rfl).trans rfl
theorem wX0_times_3 {ret F n h} {v0 v1 v2 v3 v4 st x} : eX0_times ret F (n + 1) 3 [v0, v1, v2, v3, v4] (.int x :: st) h 0 0 = (eX0_times ret F n 5 [v0, v1, v2, amClr v3, .int x] (st) h 0 0) := (amWp_dec rfl dX0_times_3 rfl).trans (amTrue (Nat.le_of_ble_eq_true rfl))
theorem wX0_times_5 {ret F n ls st h k z} : eX0_times ret F (n + 1) 5 ls st h k z = F 5 ls st h k z := amWp_cut rfl
theorem uX0_times_5 {ret F n h} {v0 v1 v2 v3 st x} : sX0_times ret F n 5 [v0, v1, v2, v3, .int x] (st) h 0 0 = (eX0_times ret F n 7 [v0, v1, v2, v3, .int x] (.int x :: st) h 0 0) := (amWs_dec dX0_times_5 rfl).trans rfl
theorem wX0_times_7 {ret F n h} {v0 v1 v2 v3 v4 st} : eX0_times ret F (n + 1) 7 [v0, v1, v2, v3, v4] (st) h 0 0 = (amIsR v0 ∧ eX0_times ret F n 8 [v0, v1, v2, v3, v4] (v0 :: st) h 0 0) := (amWp_dec rfl dX0_times_7 rfl).trans rfl
theorem wX0_times_8 {ret F n h} {v0 v1 v2 v3 v4 r0 a} : eX0_times ret F (n + 1) 8 [v0, v1, v2, v3, v4] (.ref a :: r0 :: []) h 0 0 = (h.1 a = (0, 0) ∧ eX0_times ret F n 11 [v0, v1, v2, v3, v4] (va_rf (h.2.2.2.1 a 0) :: r0 :: []) h 0 0) := (amWp_dec rfl dX0_times_8 rfl).trans (amS4 (Nat.le_of_ble_eq_true rfl) (Nat.le_of_ble_eq_true rfl) (Nat.le_of_ble_eq_true rfl) (Nat.le_of_ble_eq_true rfl))
theorem wX0_times_11 {ret F n h} {v0 v1 v2 v3 v4 x0 r0} : eX0_times ret F (n + 1) 11 [v0, v1, v2, v3, v4] (.ref x0 :: r0 :: []) h 0 0 = (h.1 x0 = (0, 1) ∧ tX1_many [.ref x0] h (fun v h => eX0_times ret F n 14 [v0, v1, v2, v3, v4] (v.toList ++ (r0 :: [])) h 0 0)) := (amWp_dec rfl dX0_times_11 rfl).trans (amS4 (Nat.le_of_ble_eq_true rfl) (Nat.le_of_ble_eq_true rfl) (Nat.le_of_ble_eq_true rfl) (Nat.le_of_ble_eq_true rfl))
theorem wX0_times_14 {ret F n h} {v0 v1 v2 v3 v4 st y x} : eX0_times ret F (n + 1) 14 [v0, v1, v2, v3, v4] (.int y :: .int x :: st) h 0 0 = ((y ≤ x → eX0_times ret F n 42 [v0, v1, v2, v3, v4] (st) h 0 0) ∧ (¬ y ≤ x → eX0_times ret F n 17 [v0, v1, v2, v3, v4] (st) h 0 0)) := (amWp_dec rfl dX0_times_14 rfl).trans rfl
theorem wX0_times_17 {ret F n h} {v0 v1 v2 v4 st x} : eX0_times ret F (n + 1) 17 [v0, v1, v2, .int x, v4] (st) h 0 0 = (eX0_times ret F n 18 [v0, v1, v2, .int x, v4] (.int x :: st) h 0 0) := (amWp_dec rfl dX0_times_17 rfl).trans rfl
theorem wX0_times_18 {ret F n h} {v0 v1 v2 v3 v4 st} : eX0_times ret F (n + 1) 18 [v0, v1, v2, v3, v4] (st) h 0 0 = (amIsR v1 ∧ eX0_times ret F n 19 [v0, v1, v2, v3, v4] (v1 :: st) h 0 0) := (amWp_dec rfl dX0_times_18 rfl).trans rfl
theorem wX0_times_19 {ret F n h} {v0 v1 v2 v3 st x} : eX0_times ret F (n + 1) 19 [v0, v1, v2, v3, .int x] (st) h 0 0 = (eX0_times ret F n 21 [v0, v1, v2, v3, .int x] (.int x :: st) h 0 0) := (amWp_dec rfl dX0_times_19 rfl).trans rfl
theorem wX0_times_21 {ret F n h} {v0 v1 v2 v3 v4 st x a} : eX0_times ret F (n + 1) 21 [v0, v1, v2, v3, v4] (.int x :: .ref a :: st) h 0 0 = ((h.1 a).1 = 1 ∧ vp_in x (h.1 a).2 ∧ eX0_times ret F n 22 [v0, v1, v2, v3, v4] (.int (h.2.1 a x.toNatClampNeg) :: st) h 0 0) := (amWp_dec rfl dX0_times_21 rfl).trans rfl
theorem wX0_times_22 {ret F n h} {v0 v1 v3 v4 st x} : eX0_times ret F (n + 1) 22 [v0, v1, .int x, v3, v4] (st) h 0 0 = (eX0_times ret F n 23 [v0, v1, .int x, v3, v4] (.int x :: st) h 0 0) := (amWp_dec rfl dX0_times_22 rfl).trans rfl
theorem wX0_times_23 {ret F n h} {v0 v1 v2 v3 v4 x1 x0 r0} : eX0_times ret F (n + 1) 23 [v0, v1, v2, v3, v4] (.int x1 :: .int x0 :: r0 :: []) h 0 0 = (tX0_has [.int x0, .int x1] h (fun v h => eX0_times ret F n 26 [v0, v1, v2, v3, v4] (v.toList ++ (r0 :: [])) h 0 0)) := (amWp_dec rfl dX0_times_23 rfl).trans (amS4 (Nat.le_of_ble_eq_true rfl) (Nat.le_of_ble_eq_true rfl) (Nat.le_of_ble_eq_true rfl) (Nat.le_of_ble_eq_true rfl))
theorem wX0_times_26 {ret F n h} {v0 v1 v2 v3 v4 st x} : eX0_times ret F (n + 1) 26 [v0, v1, v2, v3, v4] (.int x :: st) h 0 0 = ((x = 0 → eX0_times ret F n 33 [v0, v1, v2, v3, v4] (st) h 0 0) ∧ (¬ x = 0 → eX0_times ret F n 29 [v0, v1, v2, v3, v4] (st) h 0 0)) := (amWp_dec rfl dX0_times_26 rfl).trans rfl
theorem wX0_times_29 {ret F n h} {v0 v1 v2 v3 v4 st} : eX0_times ret F (n + 1) 29 [v0, v1, v2, v3, v4] (st) h 0 0 = (eX0_times ret F n 30 [v0, v1, v2, v3, v4] (.int (nI 1) :: st) h 0 0) := (amWp_dec rfl dX0_times_29 rfl).trans rfl
theorem wX0_times_30 {ret F n h} {v0 v1 v2 v3 v4 st} : eX0_times ret F (n + 1) 30 [v0, v1, v2, v3, v4] (st) h 0 0 = (eX0_times ret F n 34 [v0, v1, v2, v3, v4] (st) h 0 0) := (amWp_dec rfl dX0_times_30 rfl).trans rfl
theorem wX0_times_33 {ret F n h} {v0 v1 v2 v3 v4 st} : eX0_times ret F (n + 1) 33 [v0, v1, v2, v3, v4] (st) h 0 0 = (eX0_times ret F n 34 [v0, v1, v2, v3, v4] (.int (nI 0) :: st) h 0 0) := (amWp_dec rfl dX0_times_33 rfl).trans rfl
theorem wX0_times_34 {ret F n h} {v0 v1 v2 v3 v4 st y x} : eX0_times ret F (n + 1) 34 [v0, v1, v2, v3, v4] (.int y :: .int x :: st) h 0 0 = (eX0_times ret F n 35 [v0, v1, v2, v3, v4] (.int (x + y) :: st) h 0 0) := (amWp_dec rfl dX0_times_34 rfl).trans rfl
theorem wX0_times_35 {ret F n h} {v0 v1 v2 v3 v4 st x} : eX0_times ret F (n + 1) 35 [v0, v1, v2, v3, v4] (.int x :: st) h 0 0 = (eX0_times ret F n 36 [v0, v1, amClr v2, .int x, v4] (st) h 0 0) := (amWp_dec rfl dX0_times_35 rfl).trans (amTrue (Nat.le_of_ble_eq_true rfl))
theorem wX0_times_36 {ret F n h} {v0 v1 v2 v3 st x} : eX0_times ret F (n + 1) 36 [v0, v1, v2, v3, .int x] (st) h 0 0 = (eX0_times ret F n 39 [v0, v1, v2, amClr v3, .int (x + nI 1)] (st) h 0 0) := (amWp_dec rfl dX0_times_36 rfl).trans rfl
theorem wX0_times_39 {ret F n h} {v0 v1 v2 v3 v4 st} : eX0_times ret F (n + 1) 39 [v0, v1, v2, v3, v4] (st) h 0 0 = (eX0_times ret F n 5 [v0, v1, v2, v3, v4] (st) h 0 0) := (amWp_dec rfl dX0_times_39 rfl).trans rfl
theorem wX0_times_42 {ret F n h} {v0 v1 v2 v4 st x} : eX0_times ret F (n + 1) 42 [v0, v1, v2, .int x, v4] (st) h 0 0 = (eX0_times ret F n 43 [v0, v1, v2, .int x, v4] (.int x :: st) h 0 0) := (amWp_dec rfl dX0_times_42 rfl).trans rfl
theorem wX0_times_43 {ret F n h} {v0 v1 v2 v3 v4 x} : eX0_times ret F (n + 1) 43 [v0, v1, v2, v3, v4] ([.int x]) h 0 0 = (ret (some (.int x)) h 0 0) := (amWp_dec rfl dX0_times_43 rfl).trans (amTrue ⟨_, rfl, rfl⟩)
theorem evX0_times (l : Launch) (G : amG) : ∀ pc S i sz, amLk rX0_times pc = some S → decode cX0_times pc = .ok (i, sz) → amSiteP pc G l yX0_times.cls yX0_times.name yX0_times.desc (amRm 2 0 0) i sz S.1 S.2.1 S.2.2.1 S.2.2.2 := amLk_ok (by
  refine List.forall_mem_cons.mpr ⟨⟨_, _, dX0_times_8, amSite.P (amSiteGet ⟨_, rfl, by decide, Or.inl q301⟩)⟩, ?_⟩
  refine List.forall_mem_cons.mpr ⟨⟨_, _, dX0_times_11, amSite.P (amSiteV (C := RX1) (metX1_many l G) rfl (by decide) (by decide) (lw_V q478 q479 q480 q87 q481) ⟨_, rfl, rfl⟩ ⟨rfl, by decide +kernel, by decide +kernel, by decide +kernel⟩)⟩, ?_⟩
  refine List.forall_mem_cons.mpr ⟨⟨_, _, dX0_times_23, amSite.P (amSiteS (metX0_has l G) rfl (by decide) (by decide) (lw_S q435 q436 q86 q437) ⟨by decide +kernel, by decide +kernel, by decide +kernel⟩)⟩, ?_⟩
  exact fun _ h => absurd h List.not_mem_nil)
theorem goX0_times {ret F} (hF : amCld cX0_times kX0_times (amLk rX0_times) (some .int) 0 0 ret F) (n : Nat) {pc ls st h k z} (q : sX0_times ret F n pc ls st h k z) : F pc ls st h k z := hF.1 n pc ls st h k z q
theorem metX0_times (l : Launch) (G : amG) : amMet l G yX0_times (ws_ yX0_times cX0_times 5 (some .int)) 2 0 0 tX0_times := by
  refine amMet_of (cut := kX0_times) (by decide +kernel) (evX0_times l G) ?_
  intro as h K hT
  match as, hT with
  | [.ref a, .ref c, .int w0], ⟨n, f, w, e1, hR, e2, hw, hm, hn, hc, hf, hK⟩ =>
  refine ⟨Nat.le_of_ble_eq_true rfl, fun F hF => ?_⟩
  show F 0 [.ref a, .ref c, .int w0, .retAddr 0, .retAddr 0] [] h 0 0
  obtain ⟨a, rfl⟩ : ∃ i : Nat, i = a := ⟨_, rfl⟩
  obtain ⟨c, rfl⟩ : ∃ i : Nat, i = c := ⟨_, rfl⟩
  subst e1; subst e2
  have loop : ∀ t p, p + t = n → F 5 [.ref 24, .ref c, .int (nI w), .int (nI (timesN f w p)), .int (nI p)] [] h 0 0 := by
    intro t
    induction t with
    | zero =>
      intro p e
      have e : p = n := by omega
      subst e
      refine goX0_times hF 40 ?_
      simp (disch := omega) only [wX0_times_0, uX0_times_0, wX0_times_1, wX0_times_2, wX0_times_3, wX0_times_5, uX0_times_5, wX0_times_7, wX0_times_8, wX0_times_11, wX0_times_14, wX0_times_17, wX0_times_18, wX0_times_19, wX0_times_21, wX0_times_22, wX0_times_23, wX0_times_26, wX0_times_29, wX0_times_30, wX0_times_33, wX0_times_34, wX0_times_35, wX0_times_36, wX0_times_39, wX0_times_42, wX0_times_43, amSI_1, amSI_2, amSI_3, amSI_s, amU_at, amIsR_ref, amIsR_null, amIsR_rf, amRf_some, amRf_none, amClr_int, amClr_ref, amClr_null, amClr_long, amClr_ra, amClr_rf, amFit_int, amFit_oref, amFit_aref, amFit_onull, amFit_anull, amOptSome, amOptNone, List.cons_append, List.nil_append, true_and, and_true, true_implies, not_true_eq_false, not_false_eq_true, false_implies, and_self, Nat.add_zero, Nat.zero_add, ne_eq, Prod.mk.injEq, amC01_0, amC01_1, amC01_nb, amNb0, amNb1, amTcpI_d, Nat.reduceLeDiff, Nat.reduceAdd, Nat.reduceSub, Nat.reduceEqDiff, Nat.le_refl, amN0le, hR.s, hR.r, amLeI, amLtI, amEqI, amLe0, amGt0, amEq0, amNotPosI, amGe0, amVI, amCl_nI, amAdd, amSub, amMul, tX1_many_d, hm]
      exact amRet.of (by decide) (by decide) hK
    | succ t ih =>
      intro p e
      have nx := ih (p + 1) (by omega)
      have q : (n ≤ p) = False := eq_false (by omega)
      obtain ⟨f1, f2⟩ := hf p (by omega)
      rw [timesN, cntB] at nx
      refine goX0_times hF 40 ?_
      simp (disch := omega) only [wX0_times_0, uX0_times_0, wX0_times_1, wX0_times_2, wX0_times_3, wX0_times_5, uX0_times_5, wX0_times_7, wX0_times_8, wX0_times_11, wX0_times_14, wX0_times_17, wX0_times_18, wX0_times_19, wX0_times_21, wX0_times_22, wX0_times_23, wX0_times_26, wX0_times_29, wX0_times_30, wX0_times_33, wX0_times_34, wX0_times_35, wX0_times_36, wX0_times_39, wX0_times_42, wX0_times_43, amSI_1, amSI_2, amSI_3, amSI_s, amU_at, amIsR_ref, amIsR_null, amIsR_rf, amRf_some, amRf_none, amClr_int, amClr_ref, amClr_null, amClr_long, amClr_ra, amClr_rf, amFit_int, amFit_oref, amFit_aref, amFit_onull, amFit_anull, amOptSome, amOptNone, List.cons_append, List.nil_append, true_and, and_true, true_implies, not_true_eq_false, not_false_eq_true, false_implies, and_self, Nat.add_zero, Nat.zero_add, ne_eq, Prod.mk.injEq, amC01_0, amC01_1, amC01_nb, amNb0, amNb1, amTcpI_d, Nat.reduceLeDiff, Nat.reduceAdd, Nat.reduceSub, Nat.reduceEqDiff, Nat.le_refl, amN0le, hR.s, hR.r, amLeI, amLtI, amEqI, amLe0, amGt0, amEq0, amNotPosI, amGe0, amVI, amCl_nI, amAdd, amSub, amMul, tX1_many_d, hm, hc, q, f1, tX0_has_d, nx_hasI]
      refine ⟨fun r => ?_, fun r => ?_⟩
      · rw [if_neg r] at nx
        exact nx
      · rw [if_pos (Classical.not_not.mp r)] at nx
        exact nx
  refine goX0_times hF 40 ?_
  simp (disch := omega) only [wX0_times_0, uX0_times_0, wX0_times_1, wX0_times_2, wX0_times_3, wX0_times_5, uX0_times_5, wX0_times_7, wX0_times_8, wX0_times_11, wX0_times_14, wX0_times_17, wX0_times_18, wX0_times_19, wX0_times_21, wX0_times_22, wX0_times_23, wX0_times_26, wX0_times_29, wX0_times_30, wX0_times_33, wX0_times_34, wX0_times_35, wX0_times_36, wX0_times_39, wX0_times_42, wX0_times_43, amSI_1, amSI_2, amSI_3, amSI_s, amU_at, amIsR_ref, amIsR_null, amIsR_rf, amRf_some, amRf_none, amClr_int, amClr_ref, amClr_null, amClr_long, amClr_ra, amClr_rf, amFit_int, amFit_oref, amFit_aref, amFit_onull, amFit_anull, amOptSome, amOptNone, List.cons_append, List.nil_append, true_and, and_true, true_implies, not_true_eq_false, not_false_eq_true, false_implies, and_self, Nat.add_zero, Nat.zero_add, ne_eq, Prod.mk.injEq, amC01_0, amC01_1, amC01_nb, amNb0, amNb1, amTcpI_d, Nat.reduceLeDiff, Nat.reduceAdd, Nat.reduceSub, Nat.reduceEqDiff, Nat.le_refl, amN0le, hR.s, hR.r]
  exact loop n 0 (by omega)
theorem tX0_times_d {a c : Nat} {w0 : Int32} {h : amH} {K : Option Value → amH → Prop} : tX0_times [.ref a, .ref c, .int w0] h K = ∃ (n : Nat) (f : Nat → Nat) (w : Nat), a = (24 : Nat) ∧ rsAt h ∧ w0 = nI w ∧ w < 20 ∧ h.2.1 28 1 = nI n ∧ n ≤ 7 ∧ h.1 c = (1, 7) ∧ (∀ p : Nat, p < n → h.2.1 c p = nI (f p) ∧ f p < 1048576) ∧ K (some (.int (nI (timesN f w n)))) h := rfl
/-- the first place, seen from the last -/
def firstN (f : Nat → Nat) (w : Nat) : Nat → Option Nat → Option Nat
  | 0, o => o
  | p + 1, o => firstN f w p (if (f p).testBit w then some p else o)
def tX0_firstOf : amT := fun as h K => match as with
  | [.ref a, .int w0] => ∃ (n : Nat) (f : Nat → Nat) (w : Nat), a = (24 : Nat) ∧ rsAt h ∧ w0 = nI w ∧ w < 20 ∧ h.2.1 28 1 = nI n ∧ n ≤ 7 ∧ (∀ p : Nat, p < n → h.2.1 33 p = nI (f p) ∧ f p < 1048576) ∧ K (some (.int (optI (firstN f w n none)))) h
  | _ => False
theorem n1neg : nI 0 - nI 1 < 0 := by decide
/-! ReadingStages.firstOf(I)I -/
def kX0_firstOf : Nat → Bool := fun pc => pc == 13
def rX0_firstOf : List (Nat × amS) := [(4, 1, 0, 0, amTget 0 0), (7, 1, 0, 0, (amRecv 1 tX1_many)), (18, 1, 0, 0, amTget 0 4), (24, 2, 0, 0, tX0_has)]
def eX0_firstOf (ret : Option Value → amH → Nat → Nat → Prop) (F : amX) : Nat → amX := amWp cX0_firstOf kX0_firstOf (amLk rX0_firstOf) (some .int) 0 0 ret F
def sX0_firstOf (ret : Option Value → amH → Nat → Nat → Prop) (F : amX) : Nat → amX := amWs cX0_firstOf kX0_firstOf (amLk rX0_firstOf) (some .int) 0 0 ret F
theorem wX0_firstOf_0 {ret F n h} {v0 v1 v2 v3 st} : eX0_firstOf ret F (n + 1) 0 [v0, v1, v2, v3] (st) h 0 0 = (eX0_firstOf ret F n 2 [v0, v1, v2, v3] (.int (-4) :: st) h 0 0) := (amWp_dec rfl dX0_firstOf_0 rfl).trans rfl
theorem uX0_firstOf_0 {ret F n h} {v0 v1 v2 v3 st} : sX0_firstOf ret F n 0 [v0, v1, v2, v3] (st) h 0 0 = (eX0_firstOf ret F n 2 [v0, v1, v2, v3] (.int (-4) :: st) h 0 0) := (amWs_dec dX0_firstOf_0 rfl).trans rfl
theorem wX0_firstOf_2 {ret F n h} {v0 v1 v2 v3 st x} : eX0_firstOf ret F (n + 1) 2 [v0, v1, v2, v3] (.int x :: st) h 0 0 = (eX0_firstOf ret F n 3 [v0, amClr v1, .int x, v3] (st) h 0 0) := (amWp_dec rfl dX0_firstOf_2 rfl).trans (amTrue (Nat.le_of_ble_eq_true rfl))
theorem wX0_firstOf_3 {ret F n h} {v0 v1 v2 v3 st} : eX0_firstOf ret F (n + 1) 3 [v0, v1, v2, v3] (st) h 0 0 = (amIsR v0 ∧ eX0_firstOf ret F n 4 [v0, v1, v2, v3] (v0 :: st) h 0 0) := (amWp_dec rfl dX0_firstOf_3 rfl).trans rfl
theorem wX0_firstOf_4 {ret F n h} {v0 v1 v2 v3 a} : eX0_firstOf ret F (n + 1) 4 [v0, v1, v2, v3] (.ref a :: []) h 0 0 = (h.1 a = (0, 0) ∧ eX0_firstOf ret F n 7 [v0, v1, v2, v3] (va_rf (h.2.2.2.1 a 0) :: []) h 0 0) := (amWp_dec rfl dX0_firstOf_4 rfl).trans (amS4 (Nat.le_of_ble_eq_true rfl) (Nat.le_of_ble_eq_true rfl) (Nat.le_of_ble_eq_true rfl) (Nat.le_of_ble_eq_true rfl))
theorem wX0_firstOf_7 {ret F n h} {v0 v1 v2 v3 x0} : eX0_firstOf ret F (n + 1) 7 [v0, v1, v2, v3] (.ref x0 :: []) h 0 0 = (h.1 x0 = (0, 1) ∧ tX1_many [.ref x0] h (fun v h => eX0_firstOf ret F n 10 [v0, v1, v2, v3] (v.toList ++ ([])) h 0 0)) := (amWp_dec rfl dX0_firstOf_7 rfl).trans (amS4 (Nat.le_of_ble_eq_true rfl) (Nat.le_of_ble_eq_true rfl) (Nat.le_of_ble_eq_true rfl) (Nat.le_of_ble_eq_true rfl))
theorem wX0_firstOf_10 {ret F n h} {v0 v1 v2 v3 st} : eX0_firstOf ret F (n + 1) 10 [v0, v1, v2, v3] (st) h 0 0 = (eX0_firstOf ret F n 11 [v0, v1, v2, v3] (.int (nI 1) :: st) h 0 0) := (amWp_dec rfl dX0_firstOf_10 rfl).trans rfl
theorem wX0_firstOf_11 {ret F n h} {v0 v1 v2 v3 st y x} : eX0_firstOf ret F (n + 1) 11 [v0, v1, v2, v3] (.int y :: .int x :: st) h 0 0 = (eX0_firstOf ret F n 12 [v0, v1, v2, v3] (.int (x - y) :: st) h 0 0) := (amWp_dec rfl dX0_firstOf_11 rfl).trans rfl
theorem wX0_firstOf_12 {ret F n h} {v0 v1 v2 v3 st x} : eX0_firstOf ret F (n + 1) 12 [v0, v1, v2, v3] (.int x :: st) h 0 0 = (eX0_firstOf ret F n 13 [v0, v1, amClr v2, .int x] (st) h 0 0) := (amWp_dec rfl dX0_firstOf_12 rfl).trans (amTrue (Nat.le_of_ble_eq_true rfl))
theorem wX0_firstOf_13 {ret F n ls st h k z} : eX0_firstOf ret F (n + 1) 13 ls st h k z = F 13 ls st h k z := amWp_cut rfl
theorem uX0_firstOf_13 {ret F n h} {v0 v1 v2 st x} : sX0_firstOf ret F n 13 [v0, v1, v2, .int x] (st) h 0 0 = (eX0_firstOf ret F n 14 [v0, v1, v2, .int x] (.int x :: st) h 0 0) := (amWs_dec dX0_firstOf_13 rfl).trans rfl
theorem wX0_firstOf_14 {ret F n h} {v0 v1 v2 v3 st x} : eX0_firstOf ret F (n + 1) 14 [v0, v1, v2, v3] (.int x :: st) h 0 0 = ((x < 0 → eX0_firstOf ret F n 42 [v0, v1, v2, v3] (st) h 0 0) ∧ (¬ x < 0 → eX0_firstOf ret F n 17 [v0, v1, v2, v3] (st) h 0 0)) := (amWp_dec rfl dX0_firstOf_14 rfl).trans rfl
theorem wX0_firstOf_17 {ret F n h} {v0 v1 v2 v3 st} : eX0_firstOf ret F (n + 1) 17 [v0, v1, v2, v3] (st) h 0 0 = (amIsR v0 ∧ eX0_firstOf ret F n 18 [v0, v1, v2, v3] (v0 :: st) h 0 0) := (amWp_dec rfl dX0_firstOf_17 rfl).trans rfl
theorem wX0_firstOf_18 {ret F n h} {v0 v1 v2 v3 a} : eX0_firstOf ret F (n + 1) 18 [v0, v1, v2, v3] (.ref a :: []) h 0 0 = (h.1 a = (0, 0) ∧ eX0_firstOf ret F n 21 [v0, v1, v2, v3] (va_rf (h.2.2.2.1 a 4) :: []) h 0 0) := (amWp_dec rfl dX0_firstOf_18 rfl).trans (amS4 (Nat.le_of_ble_eq_true rfl) (Nat.le_of_ble_eq_true rfl) (Nat.le_of_ble_eq_true rfl) (Nat.le_of_ble_eq_true rfl))
theorem wX0_firstOf_21 {ret F n h} {v0 v1 v2 st x} : eX0_firstOf ret F (n + 1) 21 [v0, v1, v2, .int x] (st) h 0 0 = (eX0_firstOf ret F n 22 [v0, v1, v2, .int x] (.int x :: st) h 0 0) := (amWp_dec rfl dX0_firstOf_21 rfl).trans rfl
theorem wX0_firstOf_22 {ret F n h} {v0 v1 v2 v3 st x a} : eX0_firstOf ret F (n + 1) 22 [v0, v1, v2, v3] (.int x :: .ref a :: st) h 0 0 = ((h.1 a).1 = 1 ∧ vp_in x (h.1 a).2 ∧ eX0_firstOf ret F n 23 [v0, v1, v2, v3] (.int (h.2.1 a x.toNatClampNeg) :: st) h 0 0) := (amWp_dec rfl dX0_firstOf_22 rfl).trans rfl
theorem wX0_firstOf_23 {ret F n h} {v0 v2 v3 st x} : eX0_firstOf ret F (n + 1) 23 [v0, .int x, v2, v3] (st) h 0 0 = (eX0_firstOf ret F n 24 [v0, .int x, v2, v3] (.int x :: st) h 0 0) := (amWp_dec rfl dX0_firstOf_23 rfl).trans rfl
theorem wX0_firstOf_24 {ret F n h} {v0 v1 v2 v3 x1 x0} : eX0_firstOf ret F (n + 1) 24 [v0, v1, v2, v3] (.int x1 :: .int x0 :: []) h 0 0 = (tX0_has [.int x0, .int x1] h (fun v h => eX0_firstOf ret F n 27 [v0, v1, v2, v3] (v.toList ++ ([])) h 0 0)) := (amWp_dec rfl dX0_firstOf_24 rfl).trans (amS4 (Nat.le_of_ble_eq_true rfl) (Nat.le_of_ble_eq_true rfl) (Nat.le_of_ble_eq_true rfl) (Nat.le_of_ble_eq_true rfl))
theorem wX0_firstOf_27 {ret F n h} {v0 v1 v2 v3 st x} : eX0_firstOf ret F (n + 1) 27 [v0, v1, v2, v3] (.int x :: st) h 0 0 = ((x = 0 → eX0_firstOf ret F n 34 [v0, v1, v2, v3] (st) h 0 0) ∧ (¬ x = 0 → eX0_firstOf ret F n 30 [v0, v1, v2, v3] (st) h 0 0)) := (amWp_dec rfl dX0_firstOf_27 rfl).trans rfl
theorem wX0_firstOf_30 {ret F n h} {v0 v1 v2 st x} : eX0_firstOf ret F (n + 1) 30 [v0, v1, v2, .int x] (st) h 0 0 = (eX0_firstOf ret F n 31 [v0, v1, v2, .int x] (.int x :: st) h 0 0) := (amWp_dec rfl dX0_firstOf_30 rfl).trans rfl
theorem wX0_firstOf_31 {ret F n h} {v0 v1 v2 v3 st} : eX0_firstOf ret F (n + 1) 31 [v0, v1, v2, v3] (st) h 0 0 = (eX0_firstOf ret F n 35 [v0, v1, v2, v3] (st) h 0 0) := (amWp_dec rfl dX0_firstOf_31 rfl).trans rfl
theorem wX0_firstOf_34 {ret F n h} {v0 v1 v3 st x} : eX0_firstOf ret F (n + 1) 34 [v0, v1, .int x, v3] (st) h 0 0 = (eX0_firstOf ret F n 35 [v0, v1, .int x, v3] (.int x :: st) h 0 0) := (amWp_dec rfl dX0_firstOf_34 rfl).trans rfl
theorem wX0_firstOf_35 {ret F n h} {v0 v1 v2 v3 st x} : eX0_firstOf ret F (n + 1) 35 [v0, v1, v2, v3] (.int x :: st) h 0 0 = (eX0_firstOf ret F n 36 [v0, amClr v1, .int x, v3] (st) h 0 0) := (amWp_dec rfl dX0_firstOf_35 rfl).trans (amTrue (Nat.le_of_ble_eq_true rfl))
theorem wX0_firstOf_36 {ret F n h} {v0 v1 v2 st x} : eX0_firstOf ret F (n + 1) 36 [v0, v1, v2, .int x] (st) h 0 0 = (eX0_firstOf ret F n 39 [v0, v1, amClr v2, .int (x - nI 1)] (st) h 0 0) := (amWp_dec rfl dX0_firstOf_36 rfl).trans (by rw [← amDec x 1 (by decide)]; rfl)
theorem wX0_firstOf_39 {ret F n h} {v0 v1 v2 v3 st} : eX0_firstOf ret F (n + 1) 39 [v0, v1, v2, v3] (st) h 0 0 = (eX0_firstOf ret F n 13 [v0, v1, v2, v3] (st) h 0 0) := (amWp_dec rfl dX0_firstOf_39 rfl).trans rfl
theorem wX0_firstOf_42 {ret F n h} {v0 v1 v3 st x} : eX0_firstOf ret F (n + 1) 42 [v0, v1, .int x, v3] (st) h 0 0 = (eX0_firstOf ret F n 43 [v0, v1, .int x, v3] (.int x :: st) h 0 0) := (amWp_dec rfl dX0_firstOf_42 rfl).trans rfl
theorem wX0_firstOf_43 {ret F n h} {v0 v1 v2 v3 x} : eX0_firstOf ret F (n + 1) 43 [v0, v1, v2, v3] ([.int x]) h 0 0 = (ret (some (.int x)) h 0 0) := (amWp_dec rfl dX0_firstOf_43 rfl).trans (amTrue ⟨_, rfl, rfl⟩)
theorem evX0_firstOf (l : Launch) (G : amG) : ∀ pc S i sz, amLk rX0_firstOf pc = some S → decode cX0_firstOf pc = .ok (i, sz) → amSiteP pc G l yX0_firstOf.cls yX0_firstOf.name yX0_firstOf.desc (amRm 2 0 0) i sz S.1 S.2.1 S.2.2.1 S.2.2.2 := amLk_ok (by
  refine List.forall_mem_cons.mpr ⟨⟨_, _, dX0_firstOf_4, amSite.P (amSiteGet ⟨_, rfl, by decide, Or.inl q301⟩)⟩, ?_⟩
  refine List.forall_mem_cons.mpr ⟨⟨_, _, dX0_firstOf_7, amSite.P (amSiteV (C := RX1) (metX1_many l G) rfl (by decide) (by decide) (lw_V q478 q479 q480 q87 q481) ⟨_, rfl, rfl⟩ ⟨rfl, by decide +kernel, by decide +kernel, by decide +kernel⟩)⟩, ?_⟩
  refine List.forall_mem_cons.mpr ⟨⟨_, _, dX0_firstOf_18, amSite.P (amSiteGet ⟨_, rfl, by decide, Or.inl q305⟩)⟩, ?_⟩
  refine List.forall_mem_cons.mpr ⟨⟨_, _, dX0_firstOf_24, amSite.P (amSiteS (metX0_has l G) rfl (by decide) (by decide) (lw_S q435 q436 q86 q437) ⟨by decide +kernel, by decide +kernel, by decide +kernel⟩)⟩, ?_⟩
  exact fun _ h => absurd h List.not_mem_nil)
theorem goX0_firstOf {ret F} (hF : amCld cX0_firstOf kX0_firstOf (amLk rX0_firstOf) (some .int) 0 0 ret F) (n : Nat) {pc ls st h k z} (q : sX0_firstOf ret F n pc ls st h k z) : F pc ls st h k z := hF.1 n pc ls st h k z q
theorem metX0_firstOf (l : Launch) (G : amG) : amMet l G yX0_firstOf (ws_ yX0_firstOf cX0_firstOf 4 (some .int)) 2 0 0 tX0_firstOf := by
  refine amMet_of (cut := kX0_firstOf) (by decide +kernel) (evX0_firstOf l G) ?_
  intro as h K hT
  match as, hT with
  | [.ref a, .int w0], ⟨n, f, w, e1, hR, e2, hw, hm, hn, hf, hK⟩ =>
  refine ⟨Nat.le_of_ble_eq_true rfl, fun F hF => ?_⟩
  show F 0 [.ref a, .int w0, .retAddr 0, .retAddr 0] [] h 0 0
  obtain ⟨a, rfl⟩ : ∃ i : Nat, i = a := ⟨_, rfl⟩
  subst e1; subst e2
  have loop : ∀ p o, p ≤ n → K (some (.int (optI (firstN f w p o)))) h → F 13 [.ref 24, .int (nI w), .int (optI o), .int (nI p - nI 1)] [] h 0 0 := by
    intro p
    induction p with
    | zero =>
      intro o e hk
      have q : (nI 0 - nI 1 < 0) = True := eq_true n1neg
      refine goX0_firstOf hF 40 ?_
      simp (disch := omega) only [wX0_firstOf_0, uX0_firstOf_0, wX0_firstOf_2, wX0_firstOf_3, wX0_firstOf_4, wX0_firstOf_7, wX0_firstOf_10, wX0_firstOf_11, wX0_firstOf_12, wX0_firstOf_13, uX0_firstOf_13, wX0_firstOf_14, wX0_firstOf_17, wX0_firstOf_18, wX0_firstOf_21, wX0_firstOf_22, wX0_firstOf_23, wX0_firstOf_24, wX0_firstOf_27, wX0_firstOf_30, wX0_firstOf_31, wX0_firstOf_34, wX0_firstOf_35, wX0_firstOf_36, wX0_firstOf_39, wX0_firstOf_42, wX0_firstOf_43, amSI_1, amSI_2, amSI_3, amSI_s, amU_at, amIsR_ref, amIsR_null, amIsR_rf, amRf_some, amRf_none, amClr_int, amClr_ref, amClr_null, amClr_long, amClr_ra, amClr_rf, amFit_int, amFit_oref, amFit_aref, amFit_onull, amFit_anull, amOptSome, amOptNone, List.cons_append, List.nil_append, true_and, and_true, true_implies, not_true_eq_false, not_false_eq_true, false_implies, and_self, Nat.add_zero, Nat.zero_add, ne_eq, Prod.mk.injEq, amC01_0, amC01_1, amC01_nb, amNb0, amNb1, amTcpI_d, Nat.reduceLeDiff, Nat.reduceAdd, Nat.reduceSub, Nat.reduceEqDiff, Nat.le_refl, amN0le, hR.s, hR.r, q]
      exact amRet.of (by decide) (by decide) hk
    | succ p ih =>
      intro o e hk
      rw [firstN] at hk
      have nx := ih _ (by omega) hk
      obtain ⟨f1, f2⟩ := hf p (by omega)
      have es : nI (p + 1) - nI 1 = nI p := by rw [amSub (by omega), Nat.add_sub_cancel]
      rw [es]
      refine goX0_firstOf hF 40 ?_
      simp (disch := omega) only [wX0_firstOf_0, uX0_firstOf_0, wX0_firstOf_2, wX0_firstOf_3, wX0_firstOf_4, wX0_firstOf_7, wX0_firstOf_10, wX0_firstOf_11, wX0_firstOf_12, wX0_firstOf_13, uX0_firstOf_13, wX0_firstOf_14, wX0_firstOf_17, wX0_firstOf_18, wX0_firstOf_21, wX0_firstOf_22, wX0_firstOf_23, wX0_firstOf_24, wX0_firstOf_27, wX0_firstOf_30, wX0_firstOf_31, wX0_firstOf_34, wX0_firstOf_35, wX0_firstOf_36, wX0_firstOf_39, wX0_firstOf_42, wX0_firstOf_43, amSI_1, amSI_2, amSI_3, amSI_s, amU_at, amIsR_ref, amIsR_null, amIsR_rf, amRf_some, amRf_none, amClr_int, amClr_ref, amClr_null, amClr_long, amClr_ra, amClr_rf, amFit_int, amFit_oref, amFit_aref, amFit_onull, amFit_anull, amOptSome, amOptNone, List.cons_append, List.nil_append, true_and, and_true, true_implies, not_true_eq_false, not_false_eq_true, false_implies, and_self, Nat.add_zero, Nat.zero_add, ne_eq, Prod.mk.injEq, amC01_0, amC01_1, amC01_nb, amNb0, amNb1, amTcpI_d, Nat.reduceLeDiff, Nat.reduceAdd, Nat.reduceSub, Nat.reduceEqDiff, Nat.le_refl, amN0le, hR.s, hR.r, amLeI, amLtI, amEqI, amLe0, amGt0, amEq0, amNotPosI, amGe0, amVI, amCl_nI, amAdd, amSub, amMul, f1, tX0_has_d, nx_hasI]
      refine ⟨fun r => ?_, fun r => ?_⟩
      · rw [if_neg r] at nx
        exact nx
      · rw [if_pos (Classical.not_not.mp r)] at nx
        exact nx
  refine goX0_firstOf hF 40 ?_
  simp (disch := omega) only [wX0_firstOf_0, uX0_firstOf_0, wX0_firstOf_2, wX0_firstOf_3, wX0_firstOf_4, wX0_firstOf_7, wX0_firstOf_10, wX0_firstOf_11, wX0_firstOf_12, wX0_firstOf_13, uX0_firstOf_13, wX0_firstOf_14, wX0_firstOf_17, wX0_firstOf_18, wX0_firstOf_21, wX0_firstOf_22, wX0_firstOf_23, wX0_firstOf_24, wX0_firstOf_27, wX0_firstOf_30, wX0_firstOf_31, wX0_firstOf_34, wX0_firstOf_35, wX0_firstOf_36, wX0_firstOf_39, wX0_firstOf_42, wX0_firstOf_43, amSI_1, amSI_2, amSI_3, amSI_s, amU_at, amIsR_ref, amIsR_null, amIsR_rf, amRf_some, amRf_none, amClr_int, amClr_ref, amClr_null, amClr_long, amClr_ra, amClr_rf, amFit_int, amFit_oref, amFit_aref, amFit_onull, amFit_anull, amOptSome, amOptNone, List.cons_append, List.nil_append, true_and, and_true, true_implies, not_true_eq_false, not_false_eq_true, false_implies, and_self, Nat.add_zero, Nat.zero_add, ne_eq, Prod.mk.injEq, amC01_0, amC01_1, amC01_nb, amNb0, amNb1, amTcpI_d, Nat.reduceLeDiff, Nat.reduceAdd, Nat.reduceSub, Nat.reduceEqDiff, Nat.le_refl, amN0le, hR.s, hR.r, tX1_many_d, hm]
  exact loop n none (Nat.le_refl _) hK
theorem tX0_firstOf_d {a : Nat} {w0 : Int32} {h : amH} {K : Option Value → amH → Prop} : tX0_firstOf [.ref a, .int w0] h K = ∃ (n : Nat) (f : Nat → Nat) (w : Nat), a = (24 : Nat) ∧ rsAt h ∧ w0 = nI w ∧ w < 20 ∧ h.2.1 28 1 = nI n ∧ n ≤ 7 ∧ (∀ p : Nat, p < n → h.2.1 33 p = nI (f p) ∧ f p < 1048576) ∧ K (some (.int (optI (firstN f w n none)))) h := rfl
def wordV (S : HS) (x : Nat) (w : Int32) : Int32 :=
  if w = nI 0 then optI (firstN (fun p => ((S.rd S.ord 0).2.getD p PL0).1) x S.ord.length none) else if w = nI 1 then nI ((S.rd S.ord 0).1 x).1 else if w = nI 2 then nI (timesN (fun p => ((S.rd S.ord 0).2.getD p PL0).1) x S.ord.length) else if w = nI 3 then nI (timesN (fun p => ((S.rd S.ord 0).2.getD p PL0).2.2.1) x S.ord.length) else if w = nI 4 then nI (timesN (fun p => S.sets.getD p 0) x S.ord.length) else -1
def wordA (S : HS) (x w : Int32) : Int32 := if x.toNatClampNeg < 20 ∧ x = nI x.toNatClampNeg then wordV S x.toNatClampNeg w else -1
theorem wordA_in {S : HS} {j : Nat} {w : Int32} (hj : j < 20) : wordA S (nI j) w = wordV S j w := by
  have e := amCl_nI (n := j) (by omega)
  unfold wordA
  rw [e, if_pos ⟨hj, rfl⟩]
theorem wordA_out {S : HS} {x w : Int32} (hx : ¬ ∃ j, j < 20 ∧ x = nI j) : wordA S x w = -1 := if_neg (fun q => hx ⟨_, q.1, q.2⟩)
theorem isLt {x : Int32} {n : Nat} (h0 : 0 < n) (hn : n < 1000000) : (lN 0 ≤ x.toInt64 ∧ x.toInt64 ≤ lN (n - 1)) ↔ ∃ j, j < n ∧ x = nI j := by
  rw [amInL (by decide) (by omega)]
  constructor
  · rintro ⟨j, h1, h2, h3⟩
    exact ⟨j, by omega, h3⟩
  · rintro ⟨j, h1, h2⟩
    exact ⟨j, by omega, by omega, h2⟩
theorem isLt20 {x : Int32} : (lN 0 ≤ x.toInt64 ∧ x.toInt64 ≤ lN 19) ↔ ∃ j, j < 20 ∧ x = nI j := isLt (n := 20) (by decide) (by decide)
def tX0_word : amT := fun as h K => match as with
  | [.ref a, .int x, .int w] => ∃ S : HS, a = (24 : Nat) ∧ sysPre h S ∧ ∀ m', rdFr h.2.1 m' → K (some (.int (wordA S x w))) (amSI h m')
  | _ => False
/-! ReadingStages.word(II)I -/
def kX0_word : Nat → Bool := fun pc => pc == 26
def rX0_word : List (Nat × amS) := [(3, 0, 0, 0, amTcon (.long (19))), (6, 3, 0, 0, tX0_isIn), (16, 1, 0, 0, amTget 0 0), (19, 1, 0, 0, amTget 1 2), (23, 3, 0, 0, (amRecv 0 tX0_go)), (62, 2, 0, 0, (amRecv 0 tX0_firstOf)), (67, 1, 0, 0, amTget 0 2), (75, 1, 0, 0, amTget 0 4), (79, 3, 0, 0, (amRecv 0 tX0_times)), (85, 1, 0, 0, amTget 0 6), (89, 3, 0, 0, (amRecv 0 tX0_times)), (95, 1, 0, 0, amTget 0 0), (98, 1, 0, 0, amTget 1 0), (102, 3, 0, 0, (amRecv 0 tX0_times))]
def eX0_word (ret : Option Value → amH → Nat → Nat → Prop) (F : amX) : Nat → amX := amWp cX0_word kX0_word (amLk rX0_word) (some .int) 0 0 ret F
def sX0_word (ret : Option Value → amH → Nat → Nat → Prop) (F : amX) : Nat → amX := amWs cX0_word kX0_word (amLk rX0_word) (some .int) 0 0 ret F
theorem wX0_word_0 {ret F n h} {v0 v2 st x} : eX0_word ret F (n + 1) 0 [v0, .int x, v2] (st) h 0 0 = (eX0_word ret F n 1 [v0, .int x, v2] (.int x :: st) h 0 0) := (amWp_dec rfl dX0_word_0 rfl).trans rfl
theorem uX0_word_0 {ret F n h} {v0 v2 st x} : sX0_word ret F n 0 [v0, .int x, v2] (st) h 0 0 = (eX0_word ret F n 1 [v0, .int x, v2] (.int x :: st) h 0 0) := (amWs_dec dX0_word_0 rfl).trans rfl
theorem wX0_word_1 {ret F n h} {v0 v1 v2 st x} : eX0_word ret F (n + 1) 1 [v0, v1, v2] (.int x :: st) h 0 0 = (eX0_word ret F n 2 [v0, v1, v2] (.long x.toInt64 :: st) h 0 0) := (amWp_dec rfl dX0_word_1 rfl).trans rfl
theorem wX0_word_2 {ret F n h} {v0 v1 v2 st} : eX0_word ret F (n + 1) 2 [v0, v1, v2] (st) h 0 0 = (eX0_word ret F n 3 [v0, v1, v2] (.long (lN 0) :: st) h 0 0) := (amWp_dec rfl dX0_word_2 rfl).trans rfl
theorem wX0_word_3 {ret F n h} {v0 v1 v2 r0 r1} : eX0_word ret F (n + 1) 3 [v0, v1, v2] (r0 :: r1 :: []) h 0 0 = (eX0_word ret F n 6 [v0, v1, v2] (.long (lN 19) :: r0 :: r1 :: []) h 0 0) := (amWp_dec rfl dX0_word_3 rfl).trans (amS4 (Nat.le_of_ble_eq_true rfl) (Nat.le_of_ble_eq_true rfl) (Nat.le_of_ble_eq_true rfl) (Nat.le_of_ble_eq_true rfl))
theorem wX0_word_6 {ret F n h} {v0 v1 v2 x2 x1 x0} : eX0_word ret F (n + 1) 6 [v0, v1, v2] (.long x2 :: .long x1 :: .long x0 :: []) h 0 0 = (tX0_isIn [.long x0, .long x1, .long x2] h (fun v h => eX0_word ret F n 9 [v0, v1, v2] (v.toList ++ ([])) h 0 0)) := (amWp_dec rfl dX0_word_6 rfl).trans (amS4 (Nat.le_of_ble_eq_true rfl) (Nat.le_of_ble_eq_true rfl) (Nat.le_of_ble_eq_true rfl) (Nat.le_of_ble_eq_true rfl))
theorem wX0_word_9 {ret F n h} {v0 v1 v2 st x} : eX0_word ret F (n + 1) 9 [v0, v1, v2] (.int x :: st) h 0 0 = ((¬ x = 0 → eX0_word ret F n 14 [v0, v1, v2] (st) h 0 0) ∧ (x = 0 → eX0_word ret F n 12 [v0, v1, v2] (st) h 0 0)) := (amWp_dec rfl dX0_word_9 rfl).trans rfl
theorem wX0_word_12 {ret F n h} {v0 v1 v2 st} : eX0_word ret F (n + 1) 12 [v0, v1, v2] (st) h 0 0 = (eX0_word ret F n 13 [v0, v1, v2] (.int (-1) :: st) h 0 0) := (amWp_dec rfl dX0_word_12 rfl).trans rfl
theorem wX0_word_13 {ret F n h} {v0 v1 v2 x} : eX0_word ret F (n + 1) 13 [v0, v1, v2] ([.int x]) h 0 0 = (ret (some (.int x)) h 0 0) := (amWp_dec rfl dX0_word_13 rfl).trans (amTrue ⟨_, rfl, rfl⟩)
theorem wX0_word_14 {ret F n h} {v0 v1 v2 st} : eX0_word ret F (n + 1) 14 [v0, v1, v2] (st) h 0 0 = (amIsR v0 ∧ eX0_word ret F n 15 [v0, v1, v2] (v0 :: st) h 0 0) := (amWp_dec rfl dX0_word_14 rfl).trans rfl
theorem wX0_word_15 {ret F n h} {v0 v1 v2 st} : eX0_word ret F (n + 1) 15 [v0, v1, v2] (st) h 0 0 = (amIsR v0 ∧ eX0_word ret F n 16 [v0, v1, v2] (v0 :: st) h 0 0) := (amWp_dec rfl dX0_word_15 rfl).trans rfl
theorem wX0_word_16 {ret F n h} {v0 v1 v2 r0 a} : eX0_word ret F (n + 1) 16 [v0, v1, v2] (.ref a :: r0 :: []) h 0 0 = (h.1 a = (0, 0) ∧ eX0_word ret F n 19 [v0, v1, v2] (va_rf (h.2.2.2.1 a 0) :: r0 :: []) h 0 0) := (amWp_dec rfl dX0_word_16 rfl).trans (amS4 (Nat.le_of_ble_eq_true rfl) (Nat.le_of_ble_eq_true rfl) (Nat.le_of_ble_eq_true rfl) (Nat.le_of_ble_eq_true rfl))
theorem wX0_word_19 {ret F n h} {v0 v1 v2 r0 a} : eX0_word ret F (n + 1) 19 [v0, v1, v2] (.ref a :: r0 :: []) h 0 0 = (h.1 a = (0, 1) ∧ eX0_word ret F n 22 [v0, v1, v2] (va_rf (h.2.2.2.1 a 2) :: r0 :: []) h 0 0) := (amWp_dec rfl dX0_word_19 rfl).trans (amS4 (Nat.le_of_ble_eq_true rfl) (Nat.le_of_ble_eq_true rfl) (Nat.le_of_ble_eq_true rfl) (Nat.le_of_ble_eq_true rfl))
theorem wX0_word_22 {ret F n h} {v0 v1 v2 st} : eX0_word ret F (n + 1) 22 [v0, v1, v2] (st) h 0 0 = (eX0_word ret F n 23 [v0, v1, v2] (.int (nI 0) :: st) h 0 0) := (amWp_dec rfl dX0_word_22 rfl).trans rfl
theorem wX0_word_23 {ret F n h} {v0 v1 v2 x2 x1 x0} : eX0_word ret F (n + 1) 23 [v0, v1, v2] (.int x2 :: .ref x1 :: .ref x0 :: []) h 0 0 = (h.1 x0 = (0, 0) ∧ tX0_go [.ref x0, .ref x1, .int x2] h (fun v h => eX0_word ret F n 26 [v0, v1, v2] (v.toList ++ ([])) h 0 0)) := (amWp_dec rfl dX0_word_23 rfl).trans (amS4 (Nat.le_of_ble_eq_true rfl) (Nat.le_of_ble_eq_true rfl) (Nat.le_of_ble_eq_true rfl) (Nat.le_of_ble_eq_true rfl))
theorem wX0_word_26 {ret F n ls st h k z} : eX0_word ret F (n + 1) 26 ls st h k z = F 26 ls st h k z := amWp_cut rfl
theorem uX0_word_26 {ret F n h} {v0 v1 st x} : sX0_word ret F n 26 [v0, v1, .int x] (st) h 0 0 = (eX0_word ret F n 27 [v0, v1, .int x] (.int x :: st) h 0 0) := (amWs_dec dX0_word_26 rfl).trans rfl
theorem wX0_word_27 {ret F n h} {v0 v1 v2 st x} : eX0_word ret F (n + 1) 27 [v0, v1, v2] (.int x :: st) h 0 0 = ((x = nI 0 → eX0_word ret F n 60 [v0, v1, v2] (st) h 0 0) ∧ (¬ x = nI 0 → (x = nI 1 → eX0_word ret F n 66 [v0, v1, v2] (st) h 0 0) ∧ (¬ x = nI 1 → (x = nI 2 → eX0_word ret F n 73 [v0, v1, v2] (st) h 0 0) ∧ (¬ x = nI 2 → (x = nI 3 → eX0_word ret F n 83 [v0, v1, v2] (st) h 0 0) ∧ (¬ x = nI 3 → (x = nI 4 → eX0_word ret F n 93 [v0, v1, v2] (st) h 0 0) ∧ (¬ x = nI 4 → eX0_word ret F n 106 [v0, v1, v2] (st) h 0 0)))))) := (amWp_dec rfl dX0_word_27 rfl).trans (amS2 (by decide +kernel) (by decide +kernel))
theorem wX0_word_60 {ret F n h} {v0 v1 v2 st} : eX0_word ret F (n + 1) 60 [v0, v1, v2] (st) h 0 0 = (amIsR v0 ∧ eX0_word ret F n 61 [v0, v1, v2] (v0 :: st) h 0 0) := (amWp_dec rfl dX0_word_60 rfl).trans rfl
theorem wX0_word_61 {ret F n h} {v0 v2 st x} : eX0_word ret F (n + 1) 61 [v0, .int x, v2] (st) h 0 0 = (eX0_word ret F n 62 [v0, .int x, v2] (.int x :: st) h 0 0) := (amWp_dec rfl dX0_word_61 rfl).trans rfl
theorem wX0_word_62 {ret F n h} {v0 v1 v2 x1 x0} : eX0_word ret F (n + 1) 62 [v0, v1, v2] (.int x1 :: .ref x0 :: []) h 0 0 = (h.1 x0 = (0, 0) ∧ tX0_firstOf [.ref x0, .int x1] h (fun v h => eX0_word ret F n 65 [v0, v1, v2] (v.toList ++ ([])) h 0 0)) := (amWp_dec rfl dX0_word_62 rfl).trans (amS4 (Nat.le_of_ble_eq_true rfl) (Nat.le_of_ble_eq_true rfl) (Nat.le_of_ble_eq_true rfl) (Nat.le_of_ble_eq_true rfl))
theorem wX0_word_65 {ret F n h} {v0 v1 v2 x} : eX0_word ret F (n + 1) 65 [v0, v1, v2] ([.int x]) h 0 0 = (ret (some (.int x)) h 0 0) := (amWp_dec rfl dX0_word_65 rfl).trans (amTrue ⟨_, rfl, rfl⟩)
theorem wX0_word_66 {ret F n h} {v0 v1 v2 st} : eX0_word ret F (n + 1) 66 [v0, v1, v2] (st) h 0 0 = (amIsR v0 ∧ eX0_word ret F n 67 [v0, v1, v2] (v0 :: st) h 0 0) := (amWp_dec rfl dX0_word_66 rfl).trans rfl
theorem wX0_word_67 {ret F n h} {v0 v1 v2 a} : eX0_word ret F (n + 1) 67 [v0, v1, v2] (.ref a :: []) h 0 0 = (h.1 a = (0, 0) ∧ eX0_word ret F n 70 [v0, v1, v2] (va_rf (h.2.2.2.1 a 2) :: []) h 0 0) := (amWp_dec rfl dX0_word_67 rfl).trans (amS4 (Nat.le_of_ble_eq_true rfl) (Nat.le_of_ble_eq_true rfl) (Nat.le_of_ble_eq_true rfl) (Nat.le_of_ble_eq_true rfl))
theorem wX0_word_70 {ret F n h} {v0 v2 st x} : eX0_word ret F (n + 1) 70 [v0, .int x, v2] (st) h 0 0 = (eX0_word ret F n 71 [v0, .int x, v2] (.int x :: st) h 0 0) := (amWp_dec rfl dX0_word_70 rfl).trans rfl
theorem wX0_word_71 {ret F n h} {v0 v1 v2 st x a} : eX0_word ret F (n + 1) 71 [v0, v1, v2] (.int x :: .ref a :: st) h 0 0 = ((h.1 a).1 = 2 ∧ vp_in x (h.1 a).2 ∧ eX0_word ret F n 72 [v0, v1, v2] (.int (h.2.1 a x.toNatClampNeg) :: st) h 0 0) := (amWp_dec rfl dX0_word_71 rfl).trans rfl
theorem wX0_word_72 {ret F n h} {v0 v1 v2 x} : eX0_word ret F (n + 1) 72 [v0, v1, v2] ([.int x]) h 0 0 = (ret (some (.int x)) h 0 0) := (amWp_dec rfl dX0_word_72 rfl).trans (amTrue ⟨_, rfl, rfl⟩)
theorem wX0_word_73 {ret F n h} {v0 v1 v2 st} : eX0_word ret F (n + 1) 73 [v0, v1, v2] (st) h 0 0 = (amIsR v0 ∧ eX0_word ret F n 74 [v0, v1, v2] (v0 :: st) h 0 0) := (amWp_dec rfl dX0_word_73 rfl).trans rfl
theorem wX0_word_74 {ret F n h} {v0 v1 v2 st} : eX0_word ret F (n + 1) 74 [v0, v1, v2] (st) h 0 0 = (amIsR v0 ∧ eX0_word ret F n 75 [v0, v1, v2] (v0 :: st) h 0 0) := (amWp_dec rfl dX0_word_74 rfl).trans rfl
theorem wX0_word_75 {ret F n h} {v0 v1 v2 r0 a} : eX0_word ret F (n + 1) 75 [v0, v1, v2] (.ref a :: r0 :: []) h 0 0 = (h.1 a = (0, 0) ∧ eX0_word ret F n 78 [v0, v1, v2] (va_rf (h.2.2.2.1 a 4) :: r0 :: []) h 0 0) := (amWp_dec rfl dX0_word_75 rfl).trans (amS4 (Nat.le_of_ble_eq_true rfl) (Nat.le_of_ble_eq_true rfl) (Nat.le_of_ble_eq_true rfl) (Nat.le_of_ble_eq_true rfl))
theorem wX0_word_78 {ret F n h} {v0 v2 st x} : eX0_word ret F (n + 1) 78 [v0, .int x, v2] (st) h 0 0 = (eX0_word ret F n 79 [v0, .int x, v2] (.int x :: st) h 0 0) := (amWp_dec rfl dX0_word_78 rfl).trans rfl
theorem wX0_word_79 {ret F n h} {v0 v1 v2 x2 x1 x0} : eX0_word ret F (n + 1) 79 [v0, v1, v2] (.int x2 :: .ref x1 :: .ref x0 :: []) h 0 0 = (h.1 x0 = (0, 0) ∧ tX0_times [.ref x0, .ref x1, .int x2] h (fun v h => eX0_word ret F n 82 [v0, v1, v2] (v.toList ++ ([])) h 0 0)) := (amWp_dec rfl dX0_word_79 rfl).trans (amS4 (Nat.le_of_ble_eq_true rfl) (Nat.le_of_ble_eq_true rfl) (Nat.le_of_ble_eq_true rfl) (Nat.le_of_ble_eq_true rfl))
theorem wX0_word_82 {ret F n h} {v0 v1 v2 x} : eX0_word ret F (n + 1) 82 [v0, v1, v2] ([.int x]) h 0 0 = (ret (some (.int x)) h 0 0) := (amWp_dec rfl dX0_word_82 rfl).trans (amTrue ⟨_, rfl, rfl⟩)
theorem wX0_word_83 {ret F n h} {v0 v1 v2 st} : eX0_word ret F (n + 1) 83 [v0, v1, v2] (st) h 0 0 = (amIsR v0 ∧ eX0_word ret F n 84 [v0, v1, v2] (v0 :: st) h 0 0) := (amWp_dec rfl dX0_word_83 rfl).trans rfl
theorem wX0_word_84 {ret F n h} {v0 v1 v2 st} : eX0_word ret F (n + 1) 84 [v0, v1, v2] (st) h 0 0 = (amIsR v0 ∧ eX0_word ret F n 85 [v0, v1, v2] (v0 :: st) h 0 0) := (amWp_dec rfl dX0_word_84 rfl).trans rfl
theorem wX0_word_85 {ret F n h} {v0 v1 v2 r0 a} : eX0_word ret F (n + 1) 85 [v0, v1, v2] (.ref a :: r0 :: []) h 0 0 = (h.1 a = (0, 0) ∧ eX0_word ret F n 88 [v0, v1, v2] (va_rf (h.2.2.2.1 a 6) :: r0 :: []) h 0 0) := (amWp_dec rfl dX0_word_85 rfl).trans (amS4 (Nat.le_of_ble_eq_true rfl) (Nat.le_of_ble_eq_true rfl) (Nat.le_of_ble_eq_true rfl) (Nat.le_of_ble_eq_true rfl))
theorem wX0_word_88 {ret F n h} {v0 v2 st x} : eX0_word ret F (n + 1) 88 [v0, .int x, v2] (st) h 0 0 = (eX0_word ret F n 89 [v0, .int x, v2] (.int x :: st) h 0 0) := (amWp_dec rfl dX0_word_88 rfl).trans rfl
theorem wX0_word_89 {ret F n h} {v0 v1 v2 x2 x1 x0} : eX0_word ret F (n + 1) 89 [v0, v1, v2] (.int x2 :: .ref x1 :: .ref x0 :: []) h 0 0 = (h.1 x0 = (0, 0) ∧ tX0_times [.ref x0, .ref x1, .int x2] h (fun v h => eX0_word ret F n 92 [v0, v1, v2] (v.toList ++ ([])) h 0 0)) := (amWp_dec rfl dX0_word_89 rfl).trans (amS4 (Nat.le_of_ble_eq_true rfl) (Nat.le_of_ble_eq_true rfl) (Nat.le_of_ble_eq_true rfl) (Nat.le_of_ble_eq_true rfl))
theorem wX0_word_92 {ret F n h} {v0 v1 v2 x} : eX0_word ret F (n + 1) 92 [v0, v1, v2] ([.int x]) h 0 0 = (ret (some (.int x)) h 0 0) := (amWp_dec rfl dX0_word_92 rfl).trans (amTrue ⟨_, rfl, rfl⟩)
theorem wX0_word_93 {ret F n h} {v0 v1 v2 st} : eX0_word ret F (n + 1) 93 [v0, v1, v2] (st) h 0 0 = (amIsR v0 ∧ eX0_word ret F n 94 [v0, v1, v2] (v0 :: st) h 0 0) := (amWp_dec rfl dX0_word_93 rfl).trans rfl
theorem wX0_word_94 {ret F n h} {v0 v1 v2 st} : eX0_word ret F (n + 1) 94 [v0, v1, v2] (st) h 0 0 = (amIsR v0 ∧ eX0_word ret F n 95 [v0, v1, v2] (v0 :: st) h 0 0) := (amWp_dec rfl dX0_word_94 rfl).trans rfl
theorem wX0_word_95 {ret F n h} {v0 v1 v2 r0 a} : eX0_word ret F (n + 1) 95 [v0, v1, v2] (.ref a :: r0 :: []) h 0 0 = (h.1 a = (0, 0) ∧ eX0_word ret F n 98 [v0, v1, v2] (va_rf (h.2.2.2.1 a 0) :: r0 :: []) h 0 0) := (amWp_dec rfl dX0_word_95 rfl).trans (amS4 (Nat.le_of_ble_eq_true rfl) (Nat.le_of_ble_eq_true rfl) (Nat.le_of_ble_eq_true rfl) (Nat.le_of_ble_eq_true rfl))
theorem wX0_word_98 {ret F n h} {v0 v1 v2 r0 a} : eX0_word ret F (n + 1) 98 [v0, v1, v2] (.ref a :: r0 :: []) h 0 0 = (h.1 a = (0, 1) ∧ eX0_word ret F n 101 [v0, v1, v2] (va_rf (h.2.2.2.1 a 0) :: r0 :: []) h 0 0) := (amWp_dec rfl dX0_word_98 rfl).trans (amS4 (Nat.le_of_ble_eq_true rfl) (Nat.le_of_ble_eq_true rfl) (Nat.le_of_ble_eq_true rfl) (Nat.le_of_ble_eq_true rfl))
theorem wX0_word_101 {ret F n h} {v0 v2 st x} : eX0_word ret F (n + 1) 101 [v0, .int x, v2] (st) h 0 0 = (eX0_word ret F n 102 [v0, .int x, v2] (.int x :: st) h 0 0) := (amWp_dec rfl dX0_word_101 rfl).trans rfl
theorem wX0_word_102 {ret F n h} {v0 v1 v2 x2 x1 x0} : eX0_word ret F (n + 1) 102 [v0, v1, v2] (.int x2 :: .ref x1 :: .ref x0 :: []) h 0 0 = (h.1 x0 = (0, 0) ∧ tX0_times [.ref x0, .ref x1, .int x2] h (fun v h => eX0_word ret F n 105 [v0, v1, v2] (v.toList ++ ([])) h 0 0)) := (amWp_dec rfl dX0_word_102 rfl).trans (amS4 (Nat.le_of_ble_eq_true rfl) (Nat.le_of_ble_eq_true rfl) (Nat.le_of_ble_eq_true rfl) (Nat.le_of_ble_eq_true rfl))
theorem wX0_word_105 {ret F n h} {v0 v1 v2 x} : eX0_word ret F (n + 1) 105 [v0, v1, v2] ([.int x]) h 0 0 = (ret (some (.int x)) h 0 0) := (amWp_dec rfl dX0_word_105 rfl).trans (amTrue ⟨_, rfl, rfl⟩)
theorem wX0_word_106 {ret F n h} {v0 v1 v2 st} : eX0_word ret F (n + 1) 106 [v0, v1, v2] (st) h 0 0 = (eX0_word ret F n 107 [v0, v1, v2] (.int (-1) :: st) h 0 0) := (amWp_dec rfl dX0_word_106 rfl).trans rfl
theorem wX0_word_107 {ret F n h} {v0 v1 v2 x} : eX0_word ret F (n + 1) 107 [v0, v1, v2] ([.int x]) h 0 0 = (ret (some (.int x)) h 0 0) := (amWp_dec rfl dX0_word_107 rfl).trans (amTrue ⟨_, rfl, rfl⟩)
theorem evX0_word (l : Launch) (G : amG) : ∀ pc S i sz, amLk rX0_word pc = some S → decode cX0_word pc = .ok (i, sz) → amSiteP pc G l yX0_word.cls yX0_word.name yX0_word.desc (amRm 6 0 0) i sz S.1 S.2.1 S.2.2.1 S.2.2.2 := amLk_ok (by
  refine List.forall_mem_cons.mpr ⟨⟨_, _, dX0_word_3, amSite.P (amSiteLdc2 q543)⟩, ?_⟩
  refine List.forall_mem_cons.mpr ⟨⟨_, _, dX0_word_6, amSite.P (amSiteS (metX0_isIn l G) rfl (by decide) (by decide) (lw_S q382 q383 q86 q384) ⟨by decide +kernel, by decide +kernel, by decide +kernel⟩)⟩, ?_⟩
  refine List.forall_mem_cons.mpr ⟨⟨_, _, dX0_word_16, amSite.P (amSiteGet ⟨_, rfl, by decide, Or.inl q301⟩)⟩, ?_⟩
  refine List.forall_mem_cons.mpr ⟨⟨_, _, dX0_word_19, amSite.P (amSiteGet ⟨_, rfl, by decide, Or.inr ⟨"ReadingStages", List.mem_of_getElem? (i := 4) rfl⟩⟩)⟩, ?_⟩
  refine List.forall_mem_cons.mpr ⟨⟨_, _, dX0_word_23, amSite.P (amSiteV (C := RX0) (metX0_go l G) rfl (by decide) (by decide) (lw_V q423 q425 qs7 q86 q426) ⟨_, rfl, rfl⟩ ⟨rfl, by decide +kernel, by decide +kernel, by decide +kernel⟩)⟩, ?_⟩
  refine List.forall_mem_cons.mpr ⟨⟨_, _, dX0_word_62, amSite.P (amSiteV (C := RX0) (metX0_firstOf l G) rfl (by decide) (by decide) (lw_V q557 q559 qs21 q86 q560) ⟨_, rfl, rfl⟩ ⟨rfl, by decide +kernel, by decide +kernel, by decide +kernel⟩)⟩, ?_⟩
  refine List.forall_mem_cons.mpr ⟨⟨_, _, dX0_word_67, amSite.P (amSiteGet ⟨_, rfl, by decide, Or.inl q303⟩)⟩, ?_⟩
  refine List.forall_mem_cons.mpr ⟨⟨_, _, dX0_word_75, amSite.P (amSiteGet ⟨_, rfl, by decide, Or.inl q305⟩)⟩, ?_⟩
  refine List.forall_mem_cons.mpr ⟨⟨_, _, dX0_word_79, amSite.P (amSiteV (C := RX0) (metX0_times l G) rfl (by decide) (by decide) (lw_V q561 q563 qs22 q86 q564) ⟨_, rfl, rfl⟩ ⟨rfl, by decide +kernel, by decide +kernel, by decide +kernel⟩)⟩, ?_⟩
  refine List.forall_mem_cons.mpr ⟨⟨_, _, dX0_word_85, amSite.P (amSiteGet ⟨_, rfl, by decide, Or.inl q307⟩)⟩, ?_⟩
  refine List.forall_mem_cons.mpr ⟨⟨_, _, dX0_word_89, amSite.P (amSiteV (C := RX0) (metX0_times l G) rfl (by decide) (by decide) (lw_V q561 q563 qs22 q86 q564) ⟨_, rfl, rfl⟩ ⟨rfl, by decide +kernel, by decide +kernel, by decide +kernel⟩)⟩, ?_⟩
  refine List.forall_mem_cons.mpr ⟨⟨_, _, dX0_word_95, amSite.P (amSiteGet ⟨_, rfl, by decide, Or.inl q301⟩)⟩, ?_⟩
  refine List.forall_mem_cons.mpr ⟨⟨_, _, dX0_word_98, amSite.P (amSiteGet ⟨_, rfl, by decide, Or.inr ⟨"ReadingStages", List.mem_of_getElem? (i := 2) rfl⟩⟩)⟩, ?_⟩
  refine List.forall_mem_cons.mpr ⟨⟨_, _, dX0_word_102, amSite.P (amSiteV (C := RX0) (metX0_times l G) rfl (by decide) (by decide) (lw_V q561 q563 qs22 q86 q564) ⟨_, rfl, rfl⟩ ⟨rfl, by decide +kernel, by decide +kernel, by decide +kernel⟩)⟩, ?_⟩
  exact fun _ h => absurd h List.not_mem_nil)
theorem goX0_word {ret F} (hF : amCld cX0_word kX0_word (amLk rX0_word) (some .int) 0 0 ret F) (n : Nat) {pc ls st h k z} (q : sX0_word ret F n pc ls st h k z) : F pc ls st h k z := hF.1 n pc ls st h k z q
theorem metX0_word (l : Launch) (G : amG) : amMet l G yX0_word (ws_ yX0_word cX0_word 3 (some .int)) 6 0 0 tX0_word := by
  refine amMet_of (cut := kX0_word) (by decide +kernel) (evX0_word l G) ?_
  intro as h K hT
  match as, hT with
  | [.ref a, .int x, .int w], ⟨S, e1, hA, hK⟩ =>
  refine ⟨Nat.le_of_ble_eq_true rfl, fun F hF => ?_⟩
  show F 0 [.ref a, .int x, .int w] [] h 0 0
  obtain ⟨a, rfl⟩ : ∃ i : Nat, i = a := ⟨_, rfl⟩
  subst e1
  have hR := hA.1
  have hS := hA.2.1
  have n7 := hS.n7
  have hm := hS.many
  refine goX0_word hF 60 ?_
  simp (disch := omega) only [wX0_word_0, uX0_word_0, wX0_word_1, wX0_word_2, wX0_word_3, wX0_word_6, wX0_word_9, wX0_word_12, wX0_word_13, wX0_word_14, wX0_word_15, wX0_word_16, wX0_word_19, wX0_word_22, wX0_word_23, wX0_word_26, uX0_word_26, wX0_word_27, wX0_word_60, wX0_word_61, wX0_word_62, wX0_word_65, wX0_word_66, wX0_word_67, wX0_word_70, wX0_word_71, wX0_word_72, wX0_word_73, wX0_word_74, wX0_word_75, wX0_word_78, wX0_word_79, wX0_word_82, wX0_word_83, wX0_word_84, wX0_word_85, wX0_word_88, wX0_word_89, wX0_word_92, wX0_word_93, wX0_word_94, wX0_word_95, wX0_word_98, wX0_word_101, wX0_word_102, wX0_word_105, wX0_word_106, wX0_word_107, amSI_1, amSI_2, amSI_3, amSI_s, amU_at, amIsR_ref, amIsR_null, amIsR_rf, amRf_some, amRf_none, amClr_int, amClr_ref, amClr_null, amClr_long, amClr_ra, amClr_rf, amFit_int, amFit_oref, amFit_aref, amFit_onull, amFit_anull, amOptSome, amOptNone, List.cons_append, List.nil_append, true_and, and_true, true_implies, not_true_eq_false, not_false_eq_true, false_implies, and_self, Nat.add_zero, Nat.zero_add, ne_eq, Prod.mk.injEq, amC01_0, amC01_1, amC01_nb, amNb0, amNb1, amTcpI_d, Nat.reduceLeDiff, Nat.reduceAdd, Nat.reduceSub, Nat.reduceEqDiff, Nat.le_refl, amN0le, hR.s, hR.r, tX0_isIn_d, isLt20, hR]
  refine ⟨fun q => goPre hA 0 (by decide) (fun m' q1 q2 => ?_), fun q => ?_⟩
  · obtain ⟨j, hj, rfl⟩ := Classical.not_not.mp q
    have len := S.rd_len S.ord 0
    have key := hK m' q2
    rw [wordA_in hj] at key
    have st := (q1.1 j hj).1
    have mm : m' 28 1 = nI S.ord.length := by rw [q2 28 (by decide)]; exact hm
    have pF : ∀ p : Nat, p < S.ord.length → m' 33 p = nI ((S.rd S.ord 0).2.getD p PL0).1 ∧ ((S.rd S.ord 0).2.getD p PL0).1 < 1048576 := fun p hp => q1.pk p (by rw [len]; exact hp)
    have pL : ∀ p : Nat, p < S.ord.length → m' 35 p = nI ((S.rd S.ord 0).2.getD p PL0).2.2.1 ∧ ((S.rd S.ord 0).2.getD p PL0).2.2.1 < 1048576 := fun p hp => q1.ls p (by rw [len]; exact hp)
    have pS : ∀ p : Nat, p < S.ord.length → m' 26 p = nI (S.sets.getD p 0) ∧ S.sets.getD p 0 < 1048576 := fun p hp => ⟨by rw [q2 26 (by decide)]; exact hS.sets p hp, hA.2.2.1.2.1.at p⟩
    have pr : ∀ {y : Int32}, K (some (.int y)) (amSI h m') → amRet 0 0 K (some (.int y)) (amSI h m') 0 0 := fun z => amRet.of (by decide) (by decide) z
    refine goX0_word hF 60 ?_
    simp (disch := omega) only [wX0_word_0, uX0_word_0, wX0_word_1, wX0_word_2, wX0_word_3, wX0_word_6, wX0_word_9, wX0_word_12, wX0_word_13, wX0_word_14, wX0_word_15, wX0_word_16, wX0_word_19, wX0_word_22, wX0_word_23, wX0_word_26, uX0_word_26, wX0_word_27, wX0_word_60, wX0_word_61, wX0_word_62, wX0_word_65, wX0_word_66, wX0_word_67, wX0_word_70, wX0_word_71, wX0_word_72, wX0_word_73, wX0_word_74, wX0_word_75, wX0_word_78, wX0_word_79, wX0_word_82, wX0_word_83, wX0_word_84, wX0_word_85, wX0_word_88, wX0_word_89, wX0_word_92, wX0_word_93, wX0_word_94, wX0_word_95, wX0_word_98, wX0_word_101, wX0_word_102, wX0_word_105, wX0_word_106, wX0_word_107, amSI_1, amSI_2, amSI_3, amSI_s, amU_at, amIsR_ref, amIsR_null, amIsR_rf, amRf_some, amRf_none, amClr_int, amClr_ref, amClr_null, amClr_long, amClr_ra, amClr_rf, amFit_int, amFit_oref, amFit_aref, amFit_onull, amFit_anull, amOptSome, amOptNone, List.cons_append, List.nil_append, true_and, and_true, true_implies, not_true_eq_false, not_false_eq_true, false_implies, and_self, Nat.add_zero, Nat.zero_add, ne_eq, Prod.mk.injEq, amC01_0, amC01_1, amC01_nb, amNb0, amNb1, amTcpI_d, Nat.reduceLeDiff, Nat.reduceAdd, Nat.reduceSub, Nat.reduceEqDiff, Nat.le_refl, amN0le, hR.s, hR.r, amVI, amCl_nI, st, tX0_firstOf_d, tX0_times_d]
    refine ⟨fun z0 => ⟨_, _, j, hR, rfl, hj, mm, n7, pF, ?_⟩, fun z0 => ⟨fun z1 => ?_, fun z1 => ⟨fun z2 => ⟨_, _, j, hR, rfl, hj, mm, n7, pF, ?_⟩, fun z2 => ⟨fun z3 => ⟨_, _, j, hR, rfl, hj, mm, n7, pL, ?_⟩, fun z3 => ⟨fun z4 => ⟨_, _, j, hR, rfl, hj, mm, n7, pS, ?_⟩, fun z4 => ?_⟩⟩⟩⟩⟩
    · rw [wordV, if_pos z0] at key; exact pr key
    · rw [wordV, if_neg z0, if_pos z1] at key; exact pr key
    · rw [wordV, if_neg z0, if_neg z1, if_pos z2] at key; exact pr key
    · rw [wordV, if_neg z0, if_neg z1, if_neg z2, if_pos z3] at key; exact pr key
    · rw [wordV, if_neg z0, if_neg z1, if_neg z2, if_neg z3, if_pos z4] at key; exact pr key
    · rw [wordV, if_neg z0, if_neg z1, if_neg z2, if_neg z3, if_neg z4] at key; exact pr key
  · have key := hK h.2.1 (fun _ _ => rfl)
    rw [wordA_out q] at key
    exact amRet.of (by decide) (by decide) key
theorem tX0_word_d {a : Nat} {x w : Int32} {h : amH} {K : Option Value → amH → Prop} : tX0_word [.ref a, .int x, .int w] h K = ∃ S : HS, a = (24 : Nat) ∧ sysPre h S ∧ ∀ m', rdFr h.2.1 m' → K (some (.int (wordA S x w))) (amSI h m') := rfl
def toldV (S : HS) (k : Nat) (w : Int32) : Int32 := if w = nI 0 then nI (S.sets.getD k 0) else if w = nI 1 then nI (S.ahead.getD k 0) else if w = nI 2 then nI (S.aheadOf k) else if w = nI 3 then nI (S.ord.idxOf k) else -1
def toldA (S : HS) (x w : Int32) : Int32 := if x.toNatClampNeg < S.ord.length ∧ x = nI x.toNatClampNeg then toldV S x.toNatClampNeg w else -1
theorem toldA_in {S : HS} {j : Nat} {w : Int32} (hj : j < S.ord.length) (h : S.ord.length ≤ 7) : toldA S (nI j) w = toldV S j w := by
  have e := amCl_nI (n := j) (by omega)
  unfold toldA
  rw [e, if_pos ⟨hj, rfl⟩]
theorem toldA_out {S : HS} {x w : Int32} (hx : ¬ ∃ j, j < S.ord.length ∧ x = nI j) : toldA S x w = -1 := if_neg (fun q => hx ⟨_, q.1, q.2⟩)
def tX0_told : amT := fun as h K => match as with
  | [.ref a, .int x, .int w] => ∃ S : HS, a = (24 : Nat) ∧ sysPre h S ∧ K (some (.int (toldA S x w))) h
  | _ => False
/-! ReadingStages.told(II)I -/
def kX0_told : Nat → Bool := fun pc => false
def rX0_told : List (Nat × amS) := [(3, 2, 0, 0, (amRecv 0 tX0_isBook)), (45, 1, 0, 0, amTget 0 0), (48, 1, 0, 0, amTget 1 0), (55, 1, 0, 0, amTget 0 0), (58, 1, 0, 0, amTget 1 1), (65, 1, 0, 0, amTget 0 0), (69, 2, 0, 0, (amRecv 1 tX1_aheadOf)), (74, 1, 0, 0, amTget 0 0), (77, 1, 0, 0, amTget 1 2), (81, 2, 0, 0, (amRecv 2 tX7_find))]
def eX0_told (ret : Option Value → amH → Nat → Nat → Prop) (F : amX) : Nat → amX := amWp cX0_told kX0_told (amLk rX0_told) (some .int) 0 0 ret F
def sX0_told (ret : Option Value → amH → Nat → Nat → Prop) (F : amX) : Nat → amX := amWs cX0_told kX0_told (amLk rX0_told) (some .int) 0 0 ret F
theorem wX0_told_0 {ret F n h} {v0 v1 v2 st} : eX0_told ret F (n + 1) 0 [v0, v1, v2] (st) h 0 0 = (amIsR v0 ∧ eX0_told ret F n 1 [v0, v1, v2] (v0 :: st) h 0 0) := (amWp_dec rfl dX0_told_0 rfl).trans rfl
theorem uX0_told_0 {ret F n h} {v0 v1 v2 st} : sX0_told ret F n 0 [v0, v1, v2] (st) h 0 0 = (amIsR v0 ∧ eX0_told ret F n 1 [v0, v1, v2] (v0 :: st) h 0 0) := (amWs_dec dX0_told_0 rfl).trans rfl
theorem wX0_told_1 {ret F n h} {v0 v2 st x} : eX0_told ret F (n + 1) 1 [v0, .int x, v2] (st) h 0 0 = (eX0_told ret F n 2 [v0, .int x, v2] (.int x :: st) h 0 0) := (amWp_dec rfl dX0_told_1 rfl).trans rfl
theorem wX0_told_2 {ret F n h} {v0 v1 v2 st x} : eX0_told ret F (n + 1) 2 [v0, v1, v2] (.int x :: st) h 0 0 = (eX0_told ret F n 3 [v0, v1, v2] (.long x.toInt64 :: st) h 0 0) := (amWp_dec rfl dX0_told_2 rfl).trans rfl
theorem wX0_told_3 {ret F n h} {v0 v1 v2 x1 x0} : eX0_told ret F (n + 1) 3 [v0, v1, v2] (.long x1 :: .ref x0 :: []) h 0 0 = (h.1 x0 = (0, 0) ∧ tX0_isBook [.ref x0, .long x1] h (fun v h => eX0_told ret F n 6 [v0, v1, v2] (v.toList ++ ([])) h 0 0)) := (amWp_dec rfl dX0_told_3 rfl).trans (amS4 (Nat.le_of_ble_eq_true rfl) (Nat.le_of_ble_eq_true rfl) (Nat.le_of_ble_eq_true rfl) (Nat.le_of_ble_eq_true rfl))
theorem wX0_told_6 {ret F n h} {v0 v1 v2 st x} : eX0_told ret F (n + 1) 6 [v0, v1, v2] (.int x :: st) h 0 0 = ((¬ x = 0 → eX0_told ret F n 11 [v0, v1, v2] (st) h 0 0) ∧ (x = 0 → eX0_told ret F n 9 [v0, v1, v2] (st) h 0 0)) := (amWp_dec rfl dX0_told_6 rfl).trans rfl
theorem wX0_told_9 {ret F n h} {v0 v1 v2 st} : eX0_told ret F (n + 1) 9 [v0, v1, v2] (st) h 0 0 = (eX0_told ret F n 10 [v0, v1, v2] (.int (-1) :: st) h 0 0) := (amWp_dec rfl dX0_told_9 rfl).trans rfl
theorem wX0_told_10 {ret F n h} {v0 v1 v2 x} : eX0_told ret F (n + 1) 10 [v0, v1, v2] ([.int x]) h 0 0 = (ret (some (.int x)) h 0 0) := (amWp_dec rfl dX0_told_10 rfl).trans (amTrue ⟨_, rfl, rfl⟩)
theorem wX0_told_11 {ret F n h} {v0 v1 st x} : eX0_told ret F (n + 1) 11 [v0, v1, .int x] (st) h 0 0 = (eX0_told ret F n 12 [v0, v1, .int x] (.int x :: st) h 0 0) := (amWp_dec rfl dX0_told_11 rfl).trans rfl
theorem wX0_told_12 {ret F n h} {v0 v1 v2 st x} : eX0_told ret F (n + 1) 12 [v0, v1, v2] (.int x :: st) h 0 0 = ((x = nI 0 → eX0_told ret F n 44 [v0, v1, v2] (st) h 0 0) ∧ (¬ x = nI 0 → (x = nI 1 → eX0_told ret F n 54 [v0, v1, v2] (st) h 0 0) ∧ (¬ x = nI 1 → (x = nI 2 → eX0_told ret F n 64 [v0, v1, v2] (st) h 0 0) ∧ (¬ x = nI 2 → (x = nI 3 → eX0_told ret F n 73 [v0, v1, v2] (st) h 0 0) ∧ (¬ x = nI 3 → eX0_told ret F n 85 [v0, v1, v2] (st) h 0 0))))) := (amWp_dec rfl dX0_told_12 rfl).trans (amS2 (by decide +kernel) (by decide +kernel))
theorem wX0_told_44 {ret F n h} {v0 v1 v2 st} : eX0_told ret F (n + 1) 44 [v0, v1, v2] (st) h 0 0 = (amIsR v0 ∧ eX0_told ret F n 45 [v0, v1, v2] (v0 :: st) h 0 0) := (amWp_dec rfl dX0_told_44 rfl).trans rfl
theorem wX0_told_45 {ret F n h} {v0 v1 v2 a} : eX0_told ret F (n + 1) 45 [v0, v1, v2] (.ref a :: []) h 0 0 = (h.1 a = (0, 0) ∧ eX0_told ret F n 48 [v0, v1, v2] (va_rf (h.2.2.2.1 a 0) :: []) h 0 0) := (amWp_dec rfl dX0_told_45 rfl).trans (amS4 (Nat.le_of_ble_eq_true rfl) (Nat.le_of_ble_eq_true rfl) (Nat.le_of_ble_eq_true rfl) (Nat.le_of_ble_eq_true rfl))
theorem wX0_told_48 {ret F n h} {v0 v1 v2 a} : eX0_told ret F (n + 1) 48 [v0, v1, v2] (.ref a :: []) h 0 0 = (h.1 a = (0, 1) ∧ eX0_told ret F n 51 [v0, v1, v2] (va_rf (h.2.2.2.1 a 0) :: []) h 0 0) := (amWp_dec rfl dX0_told_48 rfl).trans (amS4 (Nat.le_of_ble_eq_true rfl) (Nat.le_of_ble_eq_true rfl) (Nat.le_of_ble_eq_true rfl) (Nat.le_of_ble_eq_true rfl))
theorem wX0_told_51 {ret F n h} {v0 v2 st x} : eX0_told ret F (n + 1) 51 [v0, .int x, v2] (st) h 0 0 = (eX0_told ret F n 52 [v0, .int x, v2] (.int x :: st) h 0 0) := (amWp_dec rfl dX0_told_51 rfl).trans rfl
theorem wX0_told_52 {ret F n h} {v0 v1 v2 st x a} : eX0_told ret F (n + 1) 52 [v0, v1, v2] (.int x :: .ref a :: st) h 0 0 = ((h.1 a).1 = 1 ∧ vp_in x (h.1 a).2 ∧ eX0_told ret F n 53 [v0, v1, v2] (.int (h.2.1 a x.toNatClampNeg) :: st) h 0 0) := (amWp_dec rfl dX0_told_52 rfl).trans rfl
theorem wX0_told_53 {ret F n h} {v0 v1 v2 x} : eX0_told ret F (n + 1) 53 [v0, v1, v2] ([.int x]) h 0 0 = (ret (some (.int x)) h 0 0) := (amWp_dec rfl dX0_told_53 rfl).trans (amTrue ⟨_, rfl, rfl⟩)
theorem wX0_told_54 {ret F n h} {v0 v1 v2 st} : eX0_told ret F (n + 1) 54 [v0, v1, v2] (st) h 0 0 = (amIsR v0 ∧ eX0_told ret F n 55 [v0, v1, v2] (v0 :: st) h 0 0) := (amWp_dec rfl dX0_told_54 rfl).trans rfl
theorem wX0_told_55 {ret F n h} {v0 v1 v2 a} : eX0_told ret F (n + 1) 55 [v0, v1, v2] (.ref a :: []) h 0 0 = (h.1 a = (0, 0) ∧ eX0_told ret F n 58 [v0, v1, v2] (va_rf (h.2.2.2.1 a 0) :: []) h 0 0) := (amWp_dec rfl dX0_told_55 rfl).trans (amS4 (Nat.le_of_ble_eq_true rfl) (Nat.le_of_ble_eq_true rfl) (Nat.le_of_ble_eq_true rfl) (Nat.le_of_ble_eq_true rfl))
theorem wX0_told_58 {ret F n h} {v0 v1 v2 a} : eX0_told ret F (n + 1) 58 [v0, v1, v2] (.ref a :: []) h 0 0 = (h.1 a = (0, 1) ∧ eX0_told ret F n 61 [v0, v1, v2] (va_rf (h.2.2.2.1 a 1) :: []) h 0 0) := (amWp_dec rfl dX0_told_58 rfl).trans (amS4 (Nat.le_of_ble_eq_true rfl) (Nat.le_of_ble_eq_true rfl) (Nat.le_of_ble_eq_true rfl) (Nat.le_of_ble_eq_true rfl))
theorem wX0_told_61 {ret F n h} {v0 v2 st x} : eX0_told ret F (n + 1) 61 [v0, .int x, v2] (st) h 0 0 = (eX0_told ret F n 62 [v0, .int x, v2] (.int x :: st) h 0 0) := (amWp_dec rfl dX0_told_61 rfl).trans rfl
theorem wX0_told_62 {ret F n h} {v0 v1 v2 st x a} : eX0_told ret F (n + 1) 62 [v0, v1, v2] (.int x :: .ref a :: st) h 0 0 = ((h.1 a).1 = 2 ∧ vp_in x (h.1 a).2 ∧ eX0_told ret F n 63 [v0, v1, v2] (.int (h.2.1 a x.toNatClampNeg) :: st) h 0 0) := (amWp_dec rfl dX0_told_62 rfl).trans rfl
theorem wX0_told_63 {ret F n h} {v0 v1 v2 x} : eX0_told ret F (n + 1) 63 [v0, v1, v2] ([.int x]) h 0 0 = (ret (some (.int x)) h 0 0) := (amWp_dec rfl dX0_told_63 rfl).trans (amTrue ⟨_, rfl, rfl⟩)
theorem wX0_told_64 {ret F n h} {v0 v1 v2 st} : eX0_told ret F (n + 1) 64 [v0, v1, v2] (st) h 0 0 = (amIsR v0 ∧ eX0_told ret F n 65 [v0, v1, v2] (v0 :: st) h 0 0) := (amWp_dec rfl dX0_told_64 rfl).trans rfl
theorem wX0_told_65 {ret F n h} {v0 v1 v2 a} : eX0_told ret F (n + 1) 65 [v0, v1, v2] (.ref a :: []) h 0 0 = (h.1 a = (0, 0) ∧ eX0_told ret F n 68 [v0, v1, v2] (va_rf (h.2.2.2.1 a 0) :: []) h 0 0) := (amWp_dec rfl dX0_told_65 rfl).trans (amS4 (Nat.le_of_ble_eq_true rfl) (Nat.le_of_ble_eq_true rfl) (Nat.le_of_ble_eq_true rfl) (Nat.le_of_ble_eq_true rfl))
theorem wX0_told_68 {ret F n h} {v0 v2 st x} : eX0_told ret F (n + 1) 68 [v0, .int x, v2] (st) h 0 0 = (eX0_told ret F n 69 [v0, .int x, v2] (.int x :: st) h 0 0) := (amWp_dec rfl dX0_told_68 rfl).trans rfl
theorem wX0_told_69 {ret F n h} {v0 v1 v2 x1 x0} : eX0_told ret F (n + 1) 69 [v0, v1, v2] (.int x1 :: .ref x0 :: []) h 0 0 = (h.1 x0 = (0, 1) ∧ tX1_aheadOf [.ref x0, .int x1] h (fun v h => eX0_told ret F n 72 [v0, v1, v2] (v.toList ++ ([])) h 0 0)) := (amWp_dec rfl dX0_told_69 rfl).trans (amS4 (Nat.le_of_ble_eq_true rfl) (Nat.le_of_ble_eq_true rfl) (Nat.le_of_ble_eq_true rfl) (Nat.le_of_ble_eq_true rfl))
theorem wX0_told_72 {ret F n h} {v0 v1 v2 x} : eX0_told ret F (n + 1) 72 [v0, v1, v2] ([.int x]) h 0 0 = (ret (some (.int x)) h 0 0) := (amWp_dec rfl dX0_told_72 rfl).trans (amTrue ⟨_, rfl, rfl⟩)
theorem wX0_told_73 {ret F n h} {v0 v1 v2 st} : eX0_told ret F (n + 1) 73 [v0, v1, v2] (st) h 0 0 = (amIsR v0 ∧ eX0_told ret F n 74 [v0, v1, v2] (v0 :: st) h 0 0) := (amWp_dec rfl dX0_told_73 rfl).trans rfl
theorem wX0_told_74 {ret F n h} {v0 v1 v2 a} : eX0_told ret F (n + 1) 74 [v0, v1, v2] (.ref a :: []) h 0 0 = (h.1 a = (0, 0) ∧ eX0_told ret F n 77 [v0, v1, v2] (va_rf (h.2.2.2.1 a 0) :: []) h 0 0) := (amWp_dec rfl dX0_told_74 rfl).trans (amS4 (Nat.le_of_ble_eq_true rfl) (Nat.le_of_ble_eq_true rfl) (Nat.le_of_ble_eq_true rfl) (Nat.le_of_ble_eq_true rfl))
theorem wX0_told_77 {ret F n h} {v0 v1 v2 a} : eX0_told ret F (n + 1) 77 [v0, v1, v2] (.ref a :: []) h 0 0 = (h.1 a = (0, 1) ∧ eX0_told ret F n 80 [v0, v1, v2] (va_rf (h.2.2.2.1 a 2) :: []) h 0 0) := (amWp_dec rfl dX0_told_77 rfl).trans (amS4 (Nat.le_of_ble_eq_true rfl) (Nat.le_of_ble_eq_true rfl) (Nat.le_of_ble_eq_true rfl) (Nat.le_of_ble_eq_true rfl))
theorem wX0_told_80 {ret F n h} {v0 v2 st x} : eX0_told ret F (n + 1) 80 [v0, .int x, v2] (st) h 0 0 = (eX0_told ret F n 81 [v0, .int x, v2] (.int x :: st) h 0 0) := (amWp_dec rfl dX0_told_80 rfl).trans rfl
theorem wX0_told_81 {ret F n h} {v0 v1 v2 x1 x0} : eX0_told ret F (n + 1) 81 [v0, v1, v2] (.int x1 :: .ref x0 :: []) h 0 0 = (h.1 x0 = (0, 2) ∧ tX7_find [.ref x0, .int x1] h (fun v h => eX0_told ret F n 84 [v0, v1, v2] (v.toList ++ ([])) h 0 0)) := (amWp_dec rfl dX0_told_81 rfl).trans (amS4 (Nat.le_of_ble_eq_true rfl) (Nat.le_of_ble_eq_true rfl) (Nat.le_of_ble_eq_true rfl) (Nat.le_of_ble_eq_true rfl))
theorem wX0_told_84 {ret F n h} {v0 v1 v2 x} : eX0_told ret F (n + 1) 84 [v0, v1, v2] ([.int x]) h 0 0 = (ret (some (.int x)) h 0 0) := (amWp_dec rfl dX0_told_84 rfl).trans (amTrue ⟨_, rfl, rfl⟩)
theorem wX0_told_85 {ret F n h} {v0 v1 v2 st} : eX0_told ret F (n + 1) 85 [v0, v1, v2] (st) h 0 0 = (eX0_told ret F n 86 [v0, v1, v2] (.int (-1) :: st) h 0 0) := (amWp_dec rfl dX0_told_85 rfl).trans rfl
theorem wX0_told_86 {ret F n h} {v0 v1 v2 x} : eX0_told ret F (n + 1) 86 [v0, v1, v2] ([.int x]) h 0 0 = (ret (some (.int x)) h 0 0) := (amWp_dec rfl dX0_told_86 rfl).trans (amTrue ⟨_, rfl, rfl⟩)
theorem evX0_told (l : Launch) (G : amG) : ∀ pc S i sz, amLk rX0_told pc = some S → decode cX0_told pc = .ok (i, sz) → amSiteP pc G l yX0_told.cls yX0_told.name yX0_told.desc (amRm 3 0 0) i sz S.1 S.2.1 S.2.2.1 S.2.2.2 := amLk_ok (by
  refine List.forall_mem_cons.mpr ⟨⟨_, _, dX0_told_3, amSite.P (amSiteV (C := RX0) (metX0_isBook l G) rfl (by decide) (by decide) (lw_V q549 q551 qs20 q86 q552) ⟨_, rfl, rfl⟩ ⟨rfl, by decide +kernel, by decide +kernel, by decide +kernel⟩)⟩, ?_⟩
  refine List.forall_mem_cons.mpr ⟨⟨_, _, dX0_told_45, amSite.P (amSiteGet ⟨_, rfl, by decide, Or.inl q301⟩)⟩, ?_⟩
  refine List.forall_mem_cons.mpr ⟨⟨_, _, dX0_told_48, amSite.P (amSiteGet ⟨_, rfl, by decide, Or.inr ⟨"ReadingStages", List.mem_of_getElem? (i := 2) rfl⟩⟩)⟩, ?_⟩
  refine List.forall_mem_cons.mpr ⟨⟨_, _, dX0_told_55, amSite.P (amSiteGet ⟨_, rfl, by decide, Or.inl q301⟩)⟩, ?_⟩
  refine List.forall_mem_cons.mpr ⟨⟨_, _, dX0_told_58, amSite.P (amSiteGet ⟨_, rfl, by decide, Or.inr ⟨"ReadingStages", List.mem_of_getElem? (i := 3) rfl⟩⟩)⟩, ?_⟩
  refine List.forall_mem_cons.mpr ⟨⟨_, _, dX0_told_65, amSite.P (amSiteGet ⟨_, rfl, by decide, Or.inl q301⟩)⟩, ?_⟩
  refine List.forall_mem_cons.mpr ⟨⟨_, _, dX0_told_69, amSite.P (amSiteV (C := RX1) (metX1_aheadOf l G) rfl (by decide) (by decide) (lw_V q502 q503 q504 q87 q505) ⟨_, rfl, rfl⟩ ⟨rfl, by decide +kernel, by decide +kernel, by decide +kernel⟩)⟩, ?_⟩
  refine List.forall_mem_cons.mpr ⟨⟨_, _, dX0_told_74, amSite.P (amSiteGet ⟨_, rfl, by decide, Or.inl q301⟩)⟩, ?_⟩
  refine List.forall_mem_cons.mpr ⟨⟨_, _, dX0_told_77, amSite.P (amSiteGet ⟨_, rfl, by decide, Or.inr ⟨"ReadingStages", List.mem_of_getElem? (i := 4) rfl⟩⟩)⟩, ?_⟩
  refine List.forall_mem_cons.mpr ⟨⟨_, _, dX0_told_81, amSite.P (amSiteD (C := RX2) (owner := "ReadingStages$Shelf") (x := ⟨"ReadingStages$Board", "find", "(I)I"⟩) (metX7_find l G) rfl (by decide) (by decide) q573 q99 q571 (List.mem_of_getElem? (i := 6) rfl) (List.mem_of_getElem? (i := 10) rfl) (List.mem_of_getElem? (i := 13) rfl) (List.mem_of_getElem? (i := 1) rfl) ⟨_, rfl, rfl⟩ ⟨by decide +kernel, by decide +kernel, by decide +kernel⟩)⟩, ?_⟩
  exact fun _ h => absurd h List.not_mem_nil)
theorem goX0_told {ret F} (hF : amCld cX0_told kX0_told (amLk rX0_told) (some .int) 0 0 ret F) (n : Nat) {pc ls st h k z} (q : sX0_told ret F n pc ls st h k z) : F pc ls st h k z := hF.1 n pc ls st h k z q
theorem metX0_told (l : Launch) (G : amG) : amMet l G yX0_told (ws_ yX0_told cX0_told 3 (some .int)) 3 0 0 tX0_told := by
  refine amMet_of (cut := kX0_told) (by decide +kernel) (evX0_told l G) ?_
  intro as h K hT
  match as, hT with
  | [.ref a, .int x, .int w], ⟨S, e1, hA, key⟩ =>
  refine ⟨Nat.le_of_ble_eq_true rfl, fun F hF => ?_⟩
  show F 0 [.ref a, .int x, .int w] [] h 0 0
  obtain ⟨a, rfl⟩ : ∃ i : Nat, i = a := ⟨_, rfl⟩
  subst e1
  have hR := hA.1
  have hS := hA.2.1
  have n7 := hS.n7
  have hm := hS.many
  have hnow := hR.now
  have hbd := hnow.2.2.2.2.2.2
  by_cases q : ∃ j, j < S.ord.length ∧ x = nI j
  · obtain ⟨j, hj, rfl⟩ := q
    rw [toldA_in hj n7] at key
    have s1 := hS.sets j hj
    have s2 := hS.ahead j hj
    refine goX0_told hF 60 ?_
    simp (disch := omega) only [wX0_told_0, uX0_told_0, wX0_told_1, wX0_told_2, wX0_told_3, wX0_told_6, wX0_told_9, wX0_told_10, wX0_told_11, wX0_told_12, wX0_told_44, wX0_told_45, wX0_told_48, wX0_told_51, wX0_told_52, wX0_told_53, wX0_told_54, wX0_told_55, wX0_told_58, wX0_told_61, wX0_told_62, wX0_told_63, wX0_told_64, wX0_told_65, wX0_told_68, wX0_told_69, wX0_told_72, wX0_told_73, wX0_told_74, wX0_told_77, wX0_told_80, wX0_told_81, wX0_told_84, wX0_told_85, wX0_told_86, amSI_1, amSI_2, amSI_3, amSI_s, amU_at, amIsR_ref, amIsR_null, amIsR_rf, amRf_some, amRf_none, amClr_int, amClr_ref, amClr_null, amClr_long, amClr_ra, amClr_rf, amFit_int, amFit_oref, amFit_aref, amFit_onull, amFit_anull, amOptSome, amOptNone, List.cons_append, List.nil_append, true_and, and_true, true_implies, not_true_eq_false, not_false_eq_true, false_implies, and_self, Nat.add_zero, Nat.zero_add, ne_eq, Prod.mk.injEq, amC01_0, amC01_1, amC01_nb, amNb0, amNb1, amTcpI_d, Nat.reduceLeDiff, Nat.reduceAdd, Nat.reduceSub, Nat.reduceEqDiff, Nat.le_refl, amN0le, hR.s, hR.r, tX0_isBook_d, hm, isBk n7, hR, s1, s2, amVI, amCl_nI, tX1_aheadOf_d, tX7_find_d]
    refine ⟨fun _ => ⟨fun z0 => ?_, fun z0 => ⟨fun z1 => ?_, fun z1 => ⟨fun z2 => ⟨S, j, rfl, hnow, hS, hj, ?_⟩, fun z2 => ⟨fun z3 => ⟨S.ord, j, rfl, hbd, hS.ord, hA.2.2.1.2.2.2.2.2.2.2.2.2.2.2.2 j hj, hA.2.2.1.2.2.2.1, ?_⟩, fun z3 => ?_⟩⟩⟩⟩, fun z => absurd ⟨j, hj, rfl⟩ z⟩
    · rw [toldV, if_pos z0] at key; exact amRet.of (by decide) (by decide) key
    · rw [toldV, if_neg z0, if_pos z1] at key; exact amRet.of (by decide) (by decide) key
    · rw [toldV, if_neg z0, if_neg z1, if_pos z2] at key; exact amRet.of (by decide) (by decide) key
    · rw [toldV, if_neg z0, if_neg z1, if_neg z2, if_pos z3] at key; exact amRet.of (by decide) (by decide) key
    · rw [toldV, if_neg z0, if_neg z1, if_neg z2, if_neg z3] at key; exact amRet.of (by decide) (by decide) key
  · rw [toldA_out q] at key
    refine goX0_told hF 60 ?_
    simp (disch := omega) only [wX0_told_0, uX0_told_0, wX0_told_1, wX0_told_2, wX0_told_3, wX0_told_6, wX0_told_9, wX0_told_10, wX0_told_11, wX0_told_12, wX0_told_44, wX0_told_45, wX0_told_48, wX0_told_51, wX0_told_52, wX0_told_53, wX0_told_54, wX0_told_55, wX0_told_58, wX0_told_61, wX0_told_62, wX0_told_63, wX0_told_64, wX0_told_65, wX0_told_68, wX0_told_69, wX0_told_72, wX0_told_73, wX0_told_74, wX0_told_77, wX0_told_80, wX0_told_81, wX0_told_84, wX0_told_85, wX0_told_86, amSI_1, amSI_2, amSI_3, amSI_s, amU_at, amIsR_ref, amIsR_null, amIsR_rf, amRf_some, amRf_none, amClr_int, amClr_ref, amClr_null, amClr_long, amClr_ra, amClr_rf, amFit_int, amFit_oref, amFit_aref, amFit_onull, amFit_anull, amOptSome, amOptNone, List.cons_append, List.nil_append, true_and, and_true, true_implies, not_true_eq_false, not_false_eq_true, false_implies, and_self, Nat.add_zero, Nat.zero_add, ne_eq, Prod.mk.injEq, amC01_0, amC01_1, amC01_nb, amNb0, amNb1, amTcpI_d, Nat.reduceLeDiff, Nat.reduceAdd, Nat.reduceSub, Nat.reduceEqDiff, Nat.le_refl, amN0le, hR.s, hR.r, tX0_isBook_d, hm, isBk n7, hR]
    exact ⟨fun z => absurd z (by simpa using q), fun _ => amRet.of (by decide) (by decide) key⟩
theorem tX0_told_d {a : Nat} {x w : Int32} {h : amH} {K : Option Value → amH → Prop} : tX0_told [.ref a, .int x, .int w] h K = ∃ S : HS, a = (24 : Nat) ∧ sysPre h S ∧ K (some (.int (toldA S x w))) h := rfl
def countV (S : HS) (um : Nat) (w : Int32) : Int32 :=
  if w = nI 0 then nI S.ord.length else if w = nI 1 then nI S.prior else if w = nI 2 then nI S.span else if w = nI 3 then nI S.bound else if w = nI 4 then nI S.rule else if w = nI 5 then nI (numL S.ord) else if w = nI 6 then nI (S.peak S.ord) else if w = nI 7 then nI (S.loss S.ord) else if w = nI 8 then amC01 (S.holds S.ord = true) else if w = nI 9 then amC01 (S.fits S.ord = true) else if w = nI 10 then nI um else -1
def tX0_count : amT := fun as h K => match as with
  | [.ref a, .int w] => ∃ (S : HS) (um : Nat), a = (24 : Nat) ∧ sysPre h S ∧ h.2.1 24 15 = nI um ∧ ∀ m', rdFr h.2.1 m' → K (some (.int (countV S um w))) (amSI h m')
  | _ => False
/-! ReadingStages.count(I)I -/
def kX0_count : Nat → Bool := fun pc => pc == 12 || pc == 184
def rX0_count : List (Nat × amS) := [(2, 1, 0, 0, amTget 0 0), (5, 1, 0, 0, amTget 1 2), (9, 3, 0, 0, (amRecv 0 tX0_go)), (73, 1, 0, 0, amTget 0 0), (76, 1, 0, 0, (amRecv 1 tX1_many)), (81, 1, 0, 0, amTget 0 0), (84, 1, 0, 0, amTget 1 3), (89, 1, 0, 0, amTget 0 0), (92, 1, 0, 0, amTget 1 4), (97, 1, 0, 0, amTget 0 0), (100, 1, 0, 0, amTget 1 5), (105, 1, 0, 0, amTget 0 0), (108, 1, 0, 0, amTget 1 6), (113, 1, 0, 0, amTget 0 0), (116, 1, 0, 0, amTget 1 2), (119, 1, 0, 0, (amRecv 2 tX7_number)), (125, 1, 0, 0, amTget 0 0), (128, 1, 0, 0, (amRecv 1 tX1_many)), (131, 2, 0, 0, (amRecv 0 tX0_peak)), (137, 1, 0, 0, amTget 0 0), (140, 1, 0, 0, (amRecv 1 tX1_many)), (143, 2, 0, 0, (amRecv 0 tX0_loss)), (148, 1, 0, 0, amTget 0 0), (151, 1, 0, 0, amTget 1 2), (155, 1, 0, 0, amTget 0 0), (158, 1, 0, 0, amTget 1 1), (161, 2, 0, 0, (amRecv 2 tX7_holds)), (175, 1, 0, 0, amTget 0 0), (178, 1, 0, 0, amTget 1 2), (181, 2, 0, 0, (amRecv 0 tX0_doesFit)), (194, 1, 0, 0, amTget 0 15)]
def eX0_count (ret : Option Value → amH → Nat → Nat → Prop) (F : amX) : Nat → amX := amWp cX0_count kX0_count (amLk rX0_count) (some .int) 0 0 ret F
def sX0_count (ret : Option Value → amH → Nat → Nat → Prop) (F : amX) : Nat → amX := amWs cX0_count kX0_count (amLk rX0_count) (some .int) 0 0 ret F
theorem wX0_count_0 {ret F n h} {v0 v1 st} : eX0_count ret F (n + 1) 0 [v0, v1] (st) h 0 0 = (amIsR v0 ∧ eX0_count ret F n 1 [v0, v1] (v0 :: st) h 0 0) := (amWp_dec rfl dX0_count_0 rfl).trans rfl
theorem uX0_count_0 {ret F n h} {v0 v1 st} : sX0_count ret F n 0 [v0, v1] (st) h 0 0 = (amIsR v0 ∧ eX0_count ret F n 1 [v0, v1] (v0 :: st) h 0 0) := (amWs_dec dX0_count_0 rfl).trans rfl
theorem wX0_count_1 {ret F n h} {v0 v1 st} : eX0_count ret F (n + 1) 1 [v0, v1] (st) h 0 0 = (amIsR v0 ∧ eX0_count ret F n 2 [v0, v1] (v0 :: st) h 0 0) := (amWp_dec rfl dX0_count_1 rfl).trans rfl
theorem wX0_count_2 {ret F n h} {v0 v1 r0 a} : eX0_count ret F (n + 1) 2 [v0, v1] (.ref a :: r0 :: []) h 0 0 = (h.1 a = (0, 0) ∧ eX0_count ret F n 5 [v0, v1] (va_rf (h.2.2.2.1 a 0) :: r0 :: []) h 0 0) := (amWp_dec rfl dX0_count_2 rfl).trans (amS4 (Nat.le_of_ble_eq_true rfl) (Nat.le_of_ble_eq_true rfl) (Nat.le_of_ble_eq_true rfl) (Nat.le_of_ble_eq_true rfl))
theorem wX0_count_5 {ret F n h} {v0 v1 r0 a} : eX0_count ret F (n + 1) 5 [v0, v1] (.ref a :: r0 :: []) h 0 0 = (h.1 a = (0, 1) ∧ eX0_count ret F n 8 [v0, v1] (va_rf (h.2.2.2.1 a 2) :: r0 :: []) h 0 0) := (amWp_dec rfl dX0_count_5 rfl).trans (amS4 (Nat.le_of_ble_eq_true rfl) (Nat.le_of_ble_eq_true rfl) (Nat.le_of_ble_eq_true rfl) (Nat.le_of_ble_eq_true rfl))
theorem wX0_count_8 {ret F n h} {v0 v1 st} : eX0_count ret F (n + 1) 8 [v0, v1] (st) h 0 0 = (eX0_count ret F n 9 [v0, v1] (.int (nI 0) :: st) h 0 0) := (amWp_dec rfl dX0_count_8 rfl).trans rfl
theorem wX0_count_9 {ret F n h} {v0 v1 x2 x1 x0} : eX0_count ret F (n + 1) 9 [v0, v1] (.int x2 :: .ref x1 :: .ref x0 :: []) h 0 0 = (h.1 x0 = (0, 0) ∧ tX0_go [.ref x0, .ref x1, .int x2] h (fun v h => eX0_count ret F n 12 [v0, v1] (v.toList ++ ([])) h 0 0)) := (amWp_dec rfl dX0_count_9 rfl).trans (amS4 (Nat.le_of_ble_eq_true rfl) (Nat.le_of_ble_eq_true rfl) (Nat.le_of_ble_eq_true rfl) (Nat.le_of_ble_eq_true rfl))
theorem wX0_count_12 {ret F n ls st h k z} : eX0_count ret F (n + 1) 12 ls st h k z = F 12 ls st h k z := amWp_cut rfl
theorem uX0_count_12 {ret F n h} {v0 st x} : sX0_count ret F n 12 [v0, .int x] (st) h 0 0 = (eX0_count ret F n 13 [v0, .int x] (.int x :: st) h 0 0) := (amWs_dec dX0_count_12 rfl).trans rfl
theorem wX0_count_13 {ret F n h} {v0 v1 st x} : eX0_count ret F (n + 1) 13 [v0, v1] (.int x :: st) h 0 0 = ((x = nI 0 → eX0_count ret F n 72 [v0, v1] (st) h 0 0) ∧ (¬ x = nI 0 → (x = nI 1 → eX0_count ret F n 80 [v0, v1] (st) h 0 0) ∧ (¬ x = nI 1 → (x = nI 2 → eX0_count ret F n 88 [v0, v1] (st) h 0 0) ∧ (¬ x = nI 2 → (x = nI 3 → eX0_count ret F n 96 [v0, v1] (st) h 0 0) ∧ (¬ x = nI 3 → (x = nI 4 → eX0_count ret F n 104 [v0, v1] (st) h 0 0) ∧ (¬ x = nI 4 → (x = nI 5 → eX0_count ret F n 112 [v0, v1] (st) h 0 0) ∧ (¬ x = nI 5 → (x = nI 6 → eX0_count ret F n 123 [v0, v1] (st) h 0 0) ∧ (¬ x = nI 6 → (x = nI 7 → eX0_count ret F n 135 [v0, v1] (st) h 0 0) ∧ (¬ x = nI 7 → (x = nI 8 → eX0_count ret F n 147 [v0, v1] (st) h 0 0) ∧ (¬ x = nI 8 → (x = nI 9 → eX0_count ret F n 173 [v0, v1] (st) h 0 0) ∧ (¬ x = nI 9 → (x = nI 10 → eX0_count ret F n 193 [v0, v1] (st) h 0 0) ∧ (¬ x = nI 10 → eX0_count ret F n 198 [v0, v1] (st) h 0 0)))))))))))) := (amWp_dec rfl dX0_count_13 rfl).trans (amS2 (by decide +kernel) (by decide +kernel))
theorem wX0_count_72 {ret F n h} {v0 v1 st} : eX0_count ret F (n + 1) 72 [v0, v1] (st) h 0 0 = (amIsR v0 ∧ eX0_count ret F n 73 [v0, v1] (v0 :: st) h 0 0) := (amWp_dec rfl dX0_count_72 rfl).trans rfl
theorem wX0_count_73 {ret F n h} {v0 v1 a} : eX0_count ret F (n + 1) 73 [v0, v1] (.ref a :: []) h 0 0 = (h.1 a = (0, 0) ∧ eX0_count ret F n 76 [v0, v1] (va_rf (h.2.2.2.1 a 0) :: []) h 0 0) := (amWp_dec rfl dX0_count_73 rfl).trans (amS4 (Nat.le_of_ble_eq_true rfl) (Nat.le_of_ble_eq_true rfl) (Nat.le_of_ble_eq_true rfl) (Nat.le_of_ble_eq_true rfl))
theorem wX0_count_76 {ret F n h} {v0 v1 x0} : eX0_count ret F (n + 1) 76 [v0, v1] (.ref x0 :: []) h 0 0 = (h.1 x0 = (0, 1) ∧ tX1_many [.ref x0] h (fun v h => eX0_count ret F n 79 [v0, v1] (v.toList ++ ([])) h 0 0)) := (amWp_dec rfl dX0_count_76 rfl).trans (amS4 (Nat.le_of_ble_eq_true rfl) (Nat.le_of_ble_eq_true rfl) (Nat.le_of_ble_eq_true rfl) (Nat.le_of_ble_eq_true rfl))
theorem wX0_count_79 {ret F n h} {v0 v1 x} : eX0_count ret F (n + 1) 79 [v0, v1] ([.int x]) h 0 0 = (ret (some (.int x)) h 0 0) := (amWp_dec rfl dX0_count_79 rfl).trans (amTrue ⟨_, rfl, rfl⟩)
theorem wX0_count_80 {ret F n h} {v0 v1 st} : eX0_count ret F (n + 1) 80 [v0, v1] (st) h 0 0 = (amIsR v0 ∧ eX0_count ret F n 81 [v0, v1] (v0 :: st) h 0 0) := (amWp_dec rfl dX0_count_80 rfl).trans rfl
theorem wX0_count_81 {ret F n h} {v0 v1 a} : eX0_count ret F (n + 1) 81 [v0, v1] (.ref a :: []) h 0 0 = (h.1 a = (0, 0) ∧ eX0_count ret F n 84 [v0, v1] (va_rf (h.2.2.2.1 a 0) :: []) h 0 0) := (amWp_dec rfl dX0_count_81 rfl).trans (amS4 (Nat.le_of_ble_eq_true rfl) (Nat.le_of_ble_eq_true rfl) (Nat.le_of_ble_eq_true rfl) (Nat.le_of_ble_eq_true rfl))
theorem wX0_count_84 {ret F n h} {v0 v1 a} : eX0_count ret F (n + 1) 84 [v0, v1] (.ref a :: []) h 0 0 = (h.1 a = (0, 1) ∧ eX0_count ret F n 87 [v0, v1] (.int (h.2.1 a 3) :: []) h 0 0) := (amWp_dec rfl dX0_count_84 rfl).trans (amS4 (Nat.le_of_ble_eq_true rfl) (Nat.le_of_ble_eq_true rfl) (Nat.le_of_ble_eq_true rfl) (Nat.le_of_ble_eq_true rfl))
theorem wX0_count_87 {ret F n h} {v0 v1 x} : eX0_count ret F (n + 1) 87 [v0, v1] ([.int x]) h 0 0 = (ret (some (.int x)) h 0 0) := (amWp_dec rfl dX0_count_87 rfl).trans (amTrue ⟨_, rfl, rfl⟩)
theorem wX0_count_88 {ret F n h} {v0 v1 st} : eX0_count ret F (n + 1) 88 [v0, v1] (st) h 0 0 = (amIsR v0 ∧ eX0_count ret F n 89 [v0, v1] (v0 :: st) h 0 0) := (amWp_dec rfl dX0_count_88 rfl).trans rfl
theorem wX0_count_89 {ret F n h} {v0 v1 a} : eX0_count ret F (n + 1) 89 [v0, v1] (.ref a :: []) h 0 0 = (h.1 a = (0, 0) ∧ eX0_count ret F n 92 [v0, v1] (va_rf (h.2.2.2.1 a 0) :: []) h 0 0) := (amWp_dec rfl dX0_count_89 rfl).trans (amS4 (Nat.le_of_ble_eq_true rfl) (Nat.le_of_ble_eq_true rfl) (Nat.le_of_ble_eq_true rfl) (Nat.le_of_ble_eq_true rfl))
theorem wX0_count_92 {ret F n h} {v0 v1 a} : eX0_count ret F (n + 1) 92 [v0, v1] (.ref a :: []) h 0 0 = (h.1 a = (0, 1) ∧ eX0_count ret F n 95 [v0, v1] (.int (h.2.1 a 4) :: []) h 0 0) := (amWp_dec rfl dX0_count_92 rfl).trans (amS4 (Nat.le_of_ble_eq_true rfl) (Nat.le_of_ble_eq_true rfl) (Nat.le_of_ble_eq_true rfl) (Nat.le_of_ble_eq_true rfl))
theorem wX0_count_95 {ret F n h} {v0 v1 x} : eX0_count ret F (n + 1) 95 [v0, v1] ([.int x]) h 0 0 = (ret (some (.int x)) h 0 0) := (amWp_dec rfl dX0_count_95 rfl).trans (amTrue ⟨_, rfl, rfl⟩)
theorem wX0_count_96 {ret F n h} {v0 v1 st} : eX0_count ret F (n + 1) 96 [v0, v1] (st) h 0 0 = (amIsR v0 ∧ eX0_count ret F n 97 [v0, v1] (v0 :: st) h 0 0) := (amWp_dec rfl dX0_count_96 rfl).trans rfl
theorem wX0_count_97 {ret F n h} {v0 v1 a} : eX0_count ret F (n + 1) 97 [v0, v1] (.ref a :: []) h 0 0 = (h.1 a = (0, 0) ∧ eX0_count ret F n 100 [v0, v1] (va_rf (h.2.2.2.1 a 0) :: []) h 0 0) := (amWp_dec rfl dX0_count_97 rfl).trans (amS4 (Nat.le_of_ble_eq_true rfl) (Nat.le_of_ble_eq_true rfl) (Nat.le_of_ble_eq_true rfl) (Nat.le_of_ble_eq_true rfl))
theorem wX0_count_100 {ret F n h} {v0 v1 a} : eX0_count ret F (n + 1) 100 [v0, v1] (.ref a :: []) h 0 0 = (h.1 a = (0, 1) ∧ eX0_count ret F n 103 [v0, v1] (.int (h.2.1 a 5) :: []) h 0 0) := (amWp_dec rfl dX0_count_100 rfl).trans (amS4 (Nat.le_of_ble_eq_true rfl) (Nat.le_of_ble_eq_true rfl) (Nat.le_of_ble_eq_true rfl) (Nat.le_of_ble_eq_true rfl))
theorem wX0_count_103 {ret F n h} {v0 v1 x} : eX0_count ret F (n + 1) 103 [v0, v1] ([.int x]) h 0 0 = (ret (some (.int x)) h 0 0) := (amWp_dec rfl dX0_count_103 rfl).trans (amTrue ⟨_, rfl, rfl⟩)
theorem wX0_count_104 {ret F n h} {v0 v1 st} : eX0_count ret F (n + 1) 104 [v0, v1] (st) h 0 0 = (amIsR v0 ∧ eX0_count ret F n 105 [v0, v1] (v0 :: st) h 0 0) := (amWp_dec rfl dX0_count_104 rfl).trans rfl
theorem wX0_count_105 {ret F n h} {v0 v1 a} : eX0_count ret F (n + 1) 105 [v0, v1] (.ref a :: []) h 0 0 = (h.1 a = (0, 0) ∧ eX0_count ret F n 108 [v0, v1] (va_rf (h.2.2.2.1 a 0) :: []) h 0 0) := (amWp_dec rfl dX0_count_105 rfl).trans (amS4 (Nat.le_of_ble_eq_true rfl) (Nat.le_of_ble_eq_true rfl) (Nat.le_of_ble_eq_true rfl) (Nat.le_of_ble_eq_true rfl))
theorem wX0_count_108 {ret F n h} {v0 v1 a} : eX0_count ret F (n + 1) 108 [v0, v1] (.ref a :: []) h 0 0 = (h.1 a = (0, 1) ∧ eX0_count ret F n 111 [v0, v1] (.int (h.2.1 a 6) :: []) h 0 0) := (amWp_dec rfl dX0_count_108 rfl).trans (amS4 (Nat.le_of_ble_eq_true rfl) (Nat.le_of_ble_eq_true rfl) (Nat.le_of_ble_eq_true rfl) (Nat.le_of_ble_eq_true rfl))
theorem wX0_count_111 {ret F n h} {v0 v1 x} : eX0_count ret F (n + 1) 111 [v0, v1] ([.int x]) h 0 0 = (ret (some (.int x)) h 0 0) := (amWp_dec rfl dX0_count_111 rfl).trans (amTrue ⟨_, rfl, rfl⟩)
theorem wX0_count_112 {ret F n h} {v0 v1 st} : eX0_count ret F (n + 1) 112 [v0, v1] (st) h 0 0 = (amIsR v0 ∧ eX0_count ret F n 113 [v0, v1] (v0 :: st) h 0 0) := (amWp_dec rfl dX0_count_112 rfl).trans rfl
theorem wX0_count_113 {ret F n h} {v0 v1 a} : eX0_count ret F (n + 1) 113 [v0, v1] (.ref a :: []) h 0 0 = (h.1 a = (0, 0) ∧ eX0_count ret F n 116 [v0, v1] (va_rf (h.2.2.2.1 a 0) :: []) h 0 0) := (amWp_dec rfl dX0_count_113 rfl).trans (amS4 (Nat.le_of_ble_eq_true rfl) (Nat.le_of_ble_eq_true rfl) (Nat.le_of_ble_eq_true rfl) (Nat.le_of_ble_eq_true rfl))
theorem wX0_count_116 {ret F n h} {v0 v1 a} : eX0_count ret F (n + 1) 116 [v0, v1] (.ref a :: []) h 0 0 = (h.1 a = (0, 1) ∧ eX0_count ret F n 119 [v0, v1] (va_rf (h.2.2.2.1 a 2) :: []) h 0 0) := (amWp_dec rfl dX0_count_116 rfl).trans (amS4 (Nat.le_of_ble_eq_true rfl) (Nat.le_of_ble_eq_true rfl) (Nat.le_of_ble_eq_true rfl) (Nat.le_of_ble_eq_true rfl))
theorem wX0_count_119 {ret F n h} {v0 v1 x0} : eX0_count ret F (n + 1) 119 [v0, v1] (.ref x0 :: []) h 0 0 = (h.1 x0 = (0, 2) ∧ tX7_number [.ref x0] h (fun v h => eX0_count ret F n 122 [v0, v1] (v.toList ++ ([])) h 0 0)) := (amWp_dec rfl dX0_count_119 rfl).trans (amS4 (Nat.le_of_ble_eq_true rfl) (Nat.le_of_ble_eq_true rfl) (Nat.le_of_ble_eq_true rfl) (Nat.le_of_ble_eq_true rfl))
theorem wX0_count_122 {ret F n h} {v0 v1 x} : eX0_count ret F (n + 1) 122 [v0, v1] ([.int x]) h 0 0 = (ret (some (.int x)) h 0 0) := (amWp_dec rfl dX0_count_122 rfl).trans (amTrue ⟨_, rfl, rfl⟩)
theorem wX0_count_123 {ret F n h} {v0 v1 st} : eX0_count ret F (n + 1) 123 [v0, v1] (st) h 0 0 = (amIsR v0 ∧ eX0_count ret F n 124 [v0, v1] (v0 :: st) h 0 0) := (amWp_dec rfl dX0_count_123 rfl).trans rfl
theorem wX0_count_124 {ret F n h} {v0 v1 st} : eX0_count ret F (n + 1) 124 [v0, v1] (st) h 0 0 = (amIsR v0 ∧ eX0_count ret F n 125 [v0, v1] (v0 :: st) h 0 0) := (amWp_dec rfl dX0_count_124 rfl).trans rfl
theorem wX0_count_125 {ret F n h} {v0 v1 r0 a} : eX0_count ret F (n + 1) 125 [v0, v1] (.ref a :: r0 :: []) h 0 0 = (h.1 a = (0, 0) ∧ eX0_count ret F n 128 [v0, v1] (va_rf (h.2.2.2.1 a 0) :: r0 :: []) h 0 0) := (amWp_dec rfl dX0_count_125 rfl).trans (amS4 (Nat.le_of_ble_eq_true rfl) (Nat.le_of_ble_eq_true rfl) (Nat.le_of_ble_eq_true rfl) (Nat.le_of_ble_eq_true rfl))
theorem wX0_count_128 {ret F n h} {v0 v1 x0 r0} : eX0_count ret F (n + 1) 128 [v0, v1] (.ref x0 :: r0 :: []) h 0 0 = (h.1 x0 = (0, 1) ∧ tX1_many [.ref x0] h (fun v h => eX0_count ret F n 131 [v0, v1] (v.toList ++ (r0 :: [])) h 0 0)) := (amWp_dec rfl dX0_count_128 rfl).trans (amS4 (Nat.le_of_ble_eq_true rfl) (Nat.le_of_ble_eq_true rfl) (Nat.le_of_ble_eq_true rfl) (Nat.le_of_ble_eq_true rfl))
theorem wX0_count_131 {ret F n h} {v0 v1 x1 x0} : eX0_count ret F (n + 1) 131 [v0, v1] (.int x1 :: .ref x0 :: []) h 0 0 = (h.1 x0 = (0, 0) ∧ tX0_peak [.ref x0, .int x1] h (fun v h => eX0_count ret F n 134 [v0, v1] (v.toList ++ ([])) h 0 0)) := (amWp_dec rfl dX0_count_131 rfl).trans (amS4 (Nat.le_of_ble_eq_true rfl) (Nat.le_of_ble_eq_true rfl) (Nat.le_of_ble_eq_true rfl) (Nat.le_of_ble_eq_true rfl))
theorem wX0_count_134 {ret F n h} {v0 v1 x} : eX0_count ret F (n + 1) 134 [v0, v1] ([.int x]) h 0 0 = (ret (some (.int x)) h 0 0) := (amWp_dec rfl dX0_count_134 rfl).trans (amTrue ⟨_, rfl, rfl⟩)
theorem wX0_count_135 {ret F n h} {v0 v1 st} : eX0_count ret F (n + 1) 135 [v0, v1] (st) h 0 0 = (amIsR v0 ∧ eX0_count ret F n 136 [v0, v1] (v0 :: st) h 0 0) := (amWp_dec rfl dX0_count_135 rfl).trans rfl
theorem wX0_count_136 {ret F n h} {v0 v1 st} : eX0_count ret F (n + 1) 136 [v0, v1] (st) h 0 0 = (amIsR v0 ∧ eX0_count ret F n 137 [v0, v1] (v0 :: st) h 0 0) := (amWp_dec rfl dX0_count_136 rfl).trans rfl
theorem wX0_count_137 {ret F n h} {v0 v1 r0 a} : eX0_count ret F (n + 1) 137 [v0, v1] (.ref a :: r0 :: []) h 0 0 = (h.1 a = (0, 0) ∧ eX0_count ret F n 140 [v0, v1] (va_rf (h.2.2.2.1 a 0) :: r0 :: []) h 0 0) := (amWp_dec rfl dX0_count_137 rfl).trans (amS4 (Nat.le_of_ble_eq_true rfl) (Nat.le_of_ble_eq_true rfl) (Nat.le_of_ble_eq_true rfl) (Nat.le_of_ble_eq_true rfl))
theorem wX0_count_140 {ret F n h} {v0 v1 x0 r0} : eX0_count ret F (n + 1) 140 [v0, v1] (.ref x0 :: r0 :: []) h 0 0 = (h.1 x0 = (0, 1) ∧ tX1_many [.ref x0] h (fun v h => eX0_count ret F n 143 [v0, v1] (v.toList ++ (r0 :: [])) h 0 0)) := (amWp_dec rfl dX0_count_140 rfl).trans (amS4 (Nat.le_of_ble_eq_true rfl) (Nat.le_of_ble_eq_true rfl) (Nat.le_of_ble_eq_true rfl) (Nat.le_of_ble_eq_true rfl))
theorem wX0_count_143 {ret F n h} {v0 v1 x1 x0} : eX0_count ret F (n + 1) 143 [v0, v1] (.int x1 :: .ref x0 :: []) h 0 0 = (h.1 x0 = (0, 0) ∧ tX0_loss [.ref x0, .int x1] h (fun v h => eX0_count ret F n 146 [v0, v1] (v.toList ++ ([])) h 0 0)) := (amWp_dec rfl dX0_count_143 rfl).trans (amS4 (Nat.le_of_ble_eq_true rfl) (Nat.le_of_ble_eq_true rfl) (Nat.le_of_ble_eq_true rfl) (Nat.le_of_ble_eq_true rfl))
theorem wX0_count_146 {ret F n h} {v0 v1 x} : eX0_count ret F (n + 1) 146 [v0, v1] ([.int x]) h 0 0 = (ret (some (.int x)) h 0 0) := (amWp_dec rfl dX0_count_146 rfl).trans (amTrue ⟨_, rfl, rfl⟩)
theorem wX0_count_147 {ret F n h} {v0 v1 st} : eX0_count ret F (n + 1) 147 [v0, v1] (st) h 0 0 = (amIsR v0 ∧ eX0_count ret F n 148 [v0, v1] (v0 :: st) h 0 0) := (amWp_dec rfl dX0_count_147 rfl).trans rfl
theorem wX0_count_148 {ret F n h} {v0 v1 a} : eX0_count ret F (n + 1) 148 [v0, v1] (.ref a :: []) h 0 0 = (h.1 a = (0, 0) ∧ eX0_count ret F n 151 [v0, v1] (va_rf (h.2.2.2.1 a 0) :: []) h 0 0) := (amWp_dec rfl dX0_count_148 rfl).trans (amS4 (Nat.le_of_ble_eq_true rfl) (Nat.le_of_ble_eq_true rfl) (Nat.le_of_ble_eq_true rfl) (Nat.le_of_ble_eq_true rfl))
theorem wX0_count_151 {ret F n h} {v0 v1 a} : eX0_count ret F (n + 1) 151 [v0, v1] (.ref a :: []) h 0 0 = (h.1 a = (0, 1) ∧ eX0_count ret F n 154 [v0, v1] (va_rf (h.2.2.2.1 a 2) :: []) h 0 0) := (amWp_dec rfl dX0_count_151 rfl).trans (amS4 (Nat.le_of_ble_eq_true rfl) (Nat.le_of_ble_eq_true rfl) (Nat.le_of_ble_eq_true rfl) (Nat.le_of_ble_eq_true rfl))
theorem wX0_count_154 {ret F n h} {v0 v1 st} : eX0_count ret F (n + 1) 154 [v0, v1] (st) h 0 0 = (amIsR v0 ∧ eX0_count ret F n 155 [v0, v1] (v0 :: st) h 0 0) := (amWp_dec rfl dX0_count_154 rfl).trans rfl
theorem wX0_count_155 {ret F n h} {v0 v1 r0 a} : eX0_count ret F (n + 1) 155 [v0, v1] (.ref a :: r0 :: []) h 0 0 = (h.1 a = (0, 0) ∧ eX0_count ret F n 158 [v0, v1] (va_rf (h.2.2.2.1 a 0) :: r0 :: []) h 0 0) := (amWp_dec rfl dX0_count_155 rfl).trans (amS4 (Nat.le_of_ble_eq_true rfl) (Nat.le_of_ble_eq_true rfl) (Nat.le_of_ble_eq_true rfl) (Nat.le_of_ble_eq_true rfl))
theorem wX0_count_158 {ret F n h} {v0 v1 r0 a} : eX0_count ret F (n + 1) 158 [v0, v1] (.ref a :: r0 :: []) h 0 0 = (h.1 a = (0, 1) ∧ eX0_count ret F n 161 [v0, v1] (va_rf (h.2.2.2.1 a 1) :: r0 :: []) h 0 0) := (amWp_dec rfl dX0_count_158 rfl).trans (amS4 (Nat.le_of_ble_eq_true rfl) (Nat.le_of_ble_eq_true rfl) (Nat.le_of_ble_eq_true rfl) (Nat.le_of_ble_eq_true rfl))
theorem wX0_count_161 {ret F n h} {v0 v1 x1 x0} : eX0_count ret F (n + 1) 161 [v0, v1] (.ref x1 :: .ref x0 :: []) h 0 0 = (h.1 x0 = (0, 2) ∧ tX7_holds [.ref x0, .ref x1] h (fun v h => eX0_count ret F n 164 [v0, v1] (v.toList ++ ([])) h 0 0)) := (amWp_dec rfl dX0_count_161 rfl).trans (amS4 (Nat.le_of_ble_eq_true rfl) (Nat.le_of_ble_eq_true rfl) (Nat.le_of_ble_eq_true rfl) (Nat.le_of_ble_eq_true rfl))
theorem wX0_count_164 {ret F n h} {v0 v1 st x} : eX0_count ret F (n + 1) 164 [v0, v1] (.int x :: st) h 0 0 = ((x = 0 → eX0_count ret F n 171 [v0, v1] (st) h 0 0) ∧ (¬ x = 0 → eX0_count ret F n 167 [v0, v1] (st) h 0 0)) := (amWp_dec rfl dX0_count_164 rfl).trans rfl
theorem wX0_count_167 {ret F n h} {v0 v1 st} : eX0_count ret F (n + 1) 167 [v0, v1] (st) h 0 0 = (eX0_count ret F n 168 [v0, v1] (.int (nI 1) :: st) h 0 0) := (amWp_dec rfl dX0_count_167 rfl).trans rfl
theorem wX0_count_168 {ret F n h} {v0 v1 st} : eX0_count ret F (n + 1) 168 [v0, v1] (st) h 0 0 = (eX0_count ret F n 172 [v0, v1] (st) h 0 0) := (amWp_dec rfl dX0_count_168 rfl).trans rfl
theorem wX0_count_171 {ret F n h} {v0 v1 st} : eX0_count ret F (n + 1) 171 [v0, v1] (st) h 0 0 = (eX0_count ret F n 172 [v0, v1] (.int (nI 0) :: st) h 0 0) := (amWp_dec rfl dX0_count_171 rfl).trans rfl
theorem wX0_count_172 {ret F n h} {v0 v1 x} : eX0_count ret F (n + 1) 172 [v0, v1] ([.int x]) h 0 0 = (ret (some (.int x)) h 0 0) := (amWp_dec rfl dX0_count_172 rfl).trans (amTrue ⟨_, rfl, rfl⟩)
theorem wX0_count_173 {ret F n h} {v0 v1 st} : eX0_count ret F (n + 1) 173 [v0, v1] (st) h 0 0 = (amIsR v0 ∧ eX0_count ret F n 174 [v0, v1] (v0 :: st) h 0 0) := (amWp_dec rfl dX0_count_173 rfl).trans rfl
theorem wX0_count_174 {ret F n h} {v0 v1 st} : eX0_count ret F (n + 1) 174 [v0, v1] (st) h 0 0 = (amIsR v0 ∧ eX0_count ret F n 175 [v0, v1] (v0 :: st) h 0 0) := (amWp_dec rfl dX0_count_174 rfl).trans rfl
theorem wX0_count_175 {ret F n h} {v0 v1 r0 a} : eX0_count ret F (n + 1) 175 [v0, v1] (.ref a :: r0 :: []) h 0 0 = (h.1 a = (0, 0) ∧ eX0_count ret F n 178 [v0, v1] (va_rf (h.2.2.2.1 a 0) :: r0 :: []) h 0 0) := (amWp_dec rfl dX0_count_175 rfl).trans (amS4 (Nat.le_of_ble_eq_true rfl) (Nat.le_of_ble_eq_true rfl) (Nat.le_of_ble_eq_true rfl) (Nat.le_of_ble_eq_true rfl))
theorem wX0_count_178 {ret F n h} {v0 v1 r0 a} : eX0_count ret F (n + 1) 178 [v0, v1] (.ref a :: r0 :: []) h 0 0 = (h.1 a = (0, 1) ∧ eX0_count ret F n 181 [v0, v1] (va_rf (h.2.2.2.1 a 2) :: r0 :: []) h 0 0) := (amWp_dec rfl dX0_count_178 rfl).trans (amS4 (Nat.le_of_ble_eq_true rfl) (Nat.le_of_ble_eq_true rfl) (Nat.le_of_ble_eq_true rfl) (Nat.le_of_ble_eq_true rfl))
theorem wX0_count_181 {ret F n h} {v0 v1 x1 x0} : eX0_count ret F (n + 1) 181 [v0, v1] (.ref x1 :: .ref x0 :: []) h 0 0 = (h.1 x0 = (0, 0) ∧ tX0_doesFit [.ref x0, .ref x1] h (fun v h => eX0_count ret F n 184 [v0, v1] (v.toList ++ ([])) h 0 0)) := (amWp_dec rfl dX0_count_181 rfl).trans (amS4 (Nat.le_of_ble_eq_true rfl) (Nat.le_of_ble_eq_true rfl) (Nat.le_of_ble_eq_true rfl) (Nat.le_of_ble_eq_true rfl))
theorem wX0_count_184 {ret F n ls st h k z} : eX0_count ret F (n + 1) 184 ls st h k z = F 184 ls st h k z := amWp_cut rfl
theorem uX0_count_184 {ret F n h} {v0 v1 st x} : sX0_count ret F n 184 [v0, v1] (.int x :: st) h 0 0 = ((x = 0 → eX0_count ret F n 191 [v0, v1] (st) h 0 0) ∧ (¬ x = 0 → eX0_count ret F n 187 [v0, v1] (st) h 0 0)) := (amWs_dec dX0_count_184 rfl).trans rfl
theorem wX0_count_187 {ret F n h} {v0 v1 st} : eX0_count ret F (n + 1) 187 [v0, v1] (st) h 0 0 = (eX0_count ret F n 188 [v0, v1] (.int (nI 1) :: st) h 0 0) := (amWp_dec rfl dX0_count_187 rfl).trans rfl
theorem wX0_count_188 {ret F n h} {v0 v1 st} : eX0_count ret F (n + 1) 188 [v0, v1] (st) h 0 0 = (eX0_count ret F n 192 [v0, v1] (st) h 0 0) := (amWp_dec rfl dX0_count_188 rfl).trans rfl
theorem wX0_count_191 {ret F n h} {v0 v1 st} : eX0_count ret F (n + 1) 191 [v0, v1] (st) h 0 0 = (eX0_count ret F n 192 [v0, v1] (.int (nI 0) :: st) h 0 0) := (amWp_dec rfl dX0_count_191 rfl).trans rfl
theorem wX0_count_192 {ret F n h} {v0 v1 x} : eX0_count ret F (n + 1) 192 [v0, v1] ([.int x]) h 0 0 = (ret (some (.int x)) h 0 0) := (amWp_dec rfl dX0_count_192 rfl).trans (amTrue ⟨_, rfl, rfl⟩)
theorem wX0_count_193 {ret F n h} {v0 v1 st} : eX0_count ret F (n + 1) 193 [v0, v1] (st) h 0 0 = (amIsR v0 ∧ eX0_count ret F n 194 [v0, v1] (v0 :: st) h 0 0) := (amWp_dec rfl dX0_count_193 rfl).trans rfl
theorem wX0_count_194 {ret F n h} {v0 v1 a} : eX0_count ret F (n + 1) 194 [v0, v1] (.ref a :: []) h 0 0 = (h.1 a = (0, 0) ∧ eX0_count ret F n 197 [v0, v1] (.int (h.2.1 a 15) :: []) h 0 0) := (amWp_dec rfl dX0_count_194 rfl).trans (amS4 (Nat.le_of_ble_eq_true rfl) (Nat.le_of_ble_eq_true rfl) (Nat.le_of_ble_eq_true rfl) (Nat.le_of_ble_eq_true rfl))
theorem wX0_count_197 {ret F n h} {v0 v1 x} : eX0_count ret F (n + 1) 197 [v0, v1] ([.int x]) h 0 0 = (ret (some (.int x)) h 0 0) := (amWp_dec rfl dX0_count_197 rfl).trans (amTrue ⟨_, rfl, rfl⟩)
theorem wX0_count_198 {ret F n h} {v0 v1 st} : eX0_count ret F (n + 1) 198 [v0, v1] (st) h 0 0 = (eX0_count ret F n 199 [v0, v1] (.int (-1) :: st) h 0 0) := (amWp_dec rfl dX0_count_198 rfl).trans rfl
theorem wX0_count_199 {ret F n h} {v0 v1 x} : eX0_count ret F (n + 1) 199 [v0, v1] ([.int x]) h 0 0 = (ret (some (.int x)) h 0 0) := (amWp_dec rfl dX0_count_199 rfl).trans (amTrue ⟨_, rfl, rfl⟩)
theorem evX0_count (l : Launch) (G : amG) : ∀ pc S i sz, amLk rX0_count pc = some S → decode cX0_count pc = .ok (i, sz) → amSiteP pc G l yX0_count.cls yX0_count.name yX0_count.desc (amRm 7 0 0) i sz S.1 S.2.1 S.2.2.1 S.2.2.2 := amLk_ok (by
  refine List.forall_mem_cons.mpr ⟨⟨_, _, dX0_count_2, amSite.P (amSiteGet ⟨_, rfl, by decide, Or.inl q301⟩)⟩, ?_⟩
  refine List.forall_mem_cons.mpr ⟨⟨_, _, dX0_count_5, amSite.P (amSiteGet ⟨_, rfl, by decide, Or.inr ⟨"ReadingStages", List.mem_of_getElem? (i := 4) rfl⟩⟩)⟩, ?_⟩
  refine List.forall_mem_cons.mpr ⟨⟨_, _, dX0_count_9, amSite.P (amSiteV (C := RX0) (metX0_go l G) rfl (by decide) (by decide) (lw_V q423 q425 qs7 q86 q426) ⟨_, rfl, rfl⟩ ⟨rfl, by decide +kernel, by decide +kernel, by decide +kernel⟩)⟩, ?_⟩
  refine List.forall_mem_cons.mpr ⟨⟨_, _, dX0_count_73, amSite.P (amSiteGet ⟨_, rfl, by decide, Or.inl q301⟩)⟩, ?_⟩
  refine List.forall_mem_cons.mpr ⟨⟨_, _, dX0_count_76, amSite.P (amSiteV (C := RX1) (metX1_many l G) rfl (by decide) (by decide) (lw_V q478 q479 q480 q87 q481) ⟨_, rfl, rfl⟩ ⟨rfl, by decide +kernel, by decide +kernel, by decide +kernel⟩)⟩, ?_⟩
  refine List.forall_mem_cons.mpr ⟨⟨_, _, dX0_count_81, amSite.P (amSiteGet ⟨_, rfl, by decide, Or.inl q301⟩)⟩, ?_⟩
  refine List.forall_mem_cons.mpr ⟨⟨_, _, dX0_count_84, amSite.P (amSiteGet ⟨_, rfl, by decide, Or.inr ⟨"ReadingStages", List.mem_of_getElem? (i := 5) rfl⟩⟩)⟩, ?_⟩
  refine List.forall_mem_cons.mpr ⟨⟨_, _, dX0_count_89, amSite.P (amSiteGet ⟨_, rfl, by decide, Or.inl q301⟩)⟩, ?_⟩
  refine List.forall_mem_cons.mpr ⟨⟨_, _, dX0_count_92, amSite.P (amSiteGet ⟨_, rfl, by decide, Or.inr ⟨"ReadingStages", List.mem_of_getElem? (i := 6) rfl⟩⟩)⟩, ?_⟩
  refine List.forall_mem_cons.mpr ⟨⟨_, _, dX0_count_97, amSite.P (amSiteGet ⟨_, rfl, by decide, Or.inl q301⟩)⟩, ?_⟩
  refine List.forall_mem_cons.mpr ⟨⟨_, _, dX0_count_100, amSite.P (amSiteGet ⟨_, rfl, by decide, Or.inr ⟨"ReadingStages", List.mem_of_getElem? (i := 7) rfl⟩⟩)⟩, ?_⟩
  refine List.forall_mem_cons.mpr ⟨⟨_, _, dX0_count_105, amSite.P (amSiteGet ⟨_, rfl, by decide, Or.inl q301⟩)⟩, ?_⟩
  refine List.forall_mem_cons.mpr ⟨⟨_, _, dX0_count_108, amSite.P (amSiteGet ⟨_, rfl, by decide, Or.inr ⟨"ReadingStages", List.mem_of_getElem? (i := 8) rfl⟩⟩)⟩, ?_⟩
  refine List.forall_mem_cons.mpr ⟨⟨_, _, dX0_count_113, amSite.P (amSiteGet ⟨_, rfl, by decide, Or.inl q301⟩)⟩, ?_⟩
  refine List.forall_mem_cons.mpr ⟨⟨_, _, dX0_count_116, amSite.P (amSiteGet ⟨_, rfl, by decide, Or.inr ⟨"ReadingStages", List.mem_of_getElem? (i := 4) rfl⟩⟩)⟩, ?_⟩
  refine List.forall_mem_cons.mpr ⟨⟨_, _, dX0_count_119, amSite.P (amSiteD (C := RX2) (owner := "ReadingStages$Shelf") (x := ⟨"ReadingStages$Board", "number", "()I"⟩) (metX7_number l G) rfl (by decide) (by decide) q517 q99 q515 (List.mem_of_getElem? (i := 5) rfl) (List.mem_of_getElem? (i := 9) rfl) (List.mem_of_getElem? (i := 12) rfl) (List.mem_of_getElem? (i := 0) rfl) ⟨_, rfl, rfl⟩ ⟨by decide +kernel, by decide +kernel, by decide +kernel⟩)⟩, ?_⟩
  refine List.forall_mem_cons.mpr ⟨⟨_, _, dX0_count_125, amSite.P (amSiteGet ⟨_, rfl, by decide, Or.inl q301⟩)⟩, ?_⟩
  refine List.forall_mem_cons.mpr ⟨⟨_, _, dX0_count_128, amSite.P (amSiteV (C := RX1) (metX1_many l G) rfl (by decide) (by decide) (lw_V q478 q479 q480 q87 q481) ⟨_, rfl, rfl⟩ ⟨rfl, by decide +kernel, by decide +kernel, by decide +kernel⟩)⟩, ?_⟩
  refine List.forall_mem_cons.mpr ⟨⟨_, _, dX0_count_131, amSite.P (amSiteV (C := RX0) (metX0_peak l G) rfl (by decide) (by decide) (lw_V q450 q452 qs11 q86 q453) ⟨_, rfl, rfl⟩ ⟨rfl, by decide +kernel, by decide +kernel, by decide +kernel⟩)⟩, ?_⟩
  refine List.forall_mem_cons.mpr ⟨⟨_, _, dX0_count_137, amSite.P (amSiteGet ⟨_, rfl, by decide, Or.inl q301⟩)⟩, ?_⟩
  refine List.forall_mem_cons.mpr ⟨⟨_, _, dX0_count_140, amSite.P (amSiteV (C := RX1) (metX1_many l G) rfl (by decide) (by decide) (lw_V q478 q479 q480 q87 q481) ⟨_, rfl, rfl⟩ ⟨rfl, by decide +kernel, by decide +kernel, by decide +kernel⟩)⟩, ?_⟩
  refine List.forall_mem_cons.mpr ⟨⟨_, _, dX0_count_143, amSite.P (amSiteV (C := RX0) (metX0_loss l G) rfl (by decide) (by decide) (lw_V q463 q465 qs12 q86 q466) ⟨_, rfl, rfl⟩ ⟨rfl, by decide +kernel, by decide +kernel, by decide +kernel⟩)⟩, ?_⟩
  refine List.forall_mem_cons.mpr ⟨⟨_, _, dX0_count_148, amSite.P (amSiteGet ⟨_, rfl, by decide, Or.inl q301⟩)⟩, ?_⟩
  refine List.forall_mem_cons.mpr ⟨⟨_, _, dX0_count_151, amSite.P (amSiteGet ⟨_, rfl, by decide, Or.inr ⟨"ReadingStages", List.mem_of_getElem? (i := 4) rfl⟩⟩)⟩, ?_⟩
  refine List.forall_mem_cons.mpr ⟨⟨_, _, dX0_count_155, amSite.P (amSiteGet ⟨_, rfl, by decide, Or.inl q301⟩)⟩, ?_⟩
  refine List.forall_mem_cons.mpr ⟨⟨_, _, dX0_count_158, amSite.P (amSiteGet ⟨_, rfl, by decide, Or.inr ⟨"ReadingStages", List.mem_of_getElem? (i := 3) rfl⟩⟩)⟩, ?_⟩
  refine List.forall_mem_cons.mpr ⟨⟨_, _, dX0_count_161, amSite.P (amSiteD (C := RX2) (owner := "ReadingStages$Shelf") (x := ⟨"ReadingStages$Board", "holds", "([B)Z"⟩) (metX7_holds l G) rfl (by decide) (by decide) q404 q99 q402 (List.mem_of_getElem? (i := 7) rfl) (List.mem_of_getElem? (i := 11) rfl) (List.mem_of_getElem? (i := 14) rfl) (List.mem_of_getElem? (i := 2) rfl) ⟨_, rfl, rfl⟩ ⟨by decide +kernel, by decide +kernel, by decide +kernel⟩)⟩, ?_⟩
  refine List.forall_mem_cons.mpr ⟨⟨_, _, dX0_count_175, amSite.P (amSiteGet ⟨_, rfl, by decide, Or.inl q301⟩)⟩, ?_⟩
  refine List.forall_mem_cons.mpr ⟨⟨_, _, dX0_count_178, amSite.P (amSiteGet ⟨_, rfl, by decide, Or.inr ⟨"ReadingStages", List.mem_of_getElem? (i := 4) rfl⟩⟩)⟩, ?_⟩
  refine List.forall_mem_cons.mpr ⟨⟨_, _, dX0_count_181, amSite.P (amSiteV (C := RX0) (metX0_doesFit l G) rfl (by decide) (by decide) (lw_V q525 q527 qs18 q86 q528) ⟨_, rfl, rfl⟩ ⟨rfl, by decide +kernel, by decide +kernel, by decide +kernel⟩)⟩, ?_⟩
  refine List.forall_mem_cons.mpr ⟨⟨_, _, dX0_count_194, amSite.P (amSiteGet ⟨_, rfl, by decide, Or.inl q316⟩)⟩, ?_⟩
  exact fun _ h => absurd h List.not_mem_nil)
theorem goX0_count {ret F} (hF : amCld cX0_count kX0_count (amLk rX0_count) (some .int) 0 0 ret F) (n : Nat) {pc ls st h k z} (q : sX0_count ret F n pc ls st h k z) : F pc ls st h k z := hF.1 n pc ls st h k z q
theorem metX0_count (l : Launch) (G : amG) : amMet l G yX0_count (ws_ yX0_count cX0_count 2 (some .int)) 7 0 0 tX0_count := by
  refine amMet_of (cut := kX0_count) (by decide +kernel) (evX0_count l G) ?_
  intro as h K hT
  match as, hT with
  | [.ref a, .int w], ⟨S, um, e1, hA, hu, hK⟩ =>
  refine ⟨Nat.le_of_ble_eq_true rfl, fun F hF => ?_⟩
  show F 0 [.ref a, .int w] [] h 0 0
  obtain ⟨a, rfl⟩ : ∃ i : Nat, i = a := ⟨_, rfl⟩
  subst e1
  have hR := hA.1
  have hS := hA.2.1
  have n7 := hS.n7
  have hm := hS.many
  have hbd := hR.now.2.2.2.2.2.2
  have len := S.rd_len S.ord 0
  refine goX0_count hF 60 ?_
  simp (disch := omega) only [wX0_count_0, uX0_count_0, wX0_count_1, wX0_count_2, wX0_count_5, wX0_count_8, wX0_count_9, wX0_count_12, uX0_count_12, wX0_count_13, wX0_count_72, wX0_count_73, wX0_count_76, wX0_count_79, wX0_count_80, wX0_count_81, wX0_count_84, wX0_count_87, wX0_count_88, wX0_count_89, wX0_count_92, wX0_count_95, wX0_count_96, wX0_count_97, wX0_count_100, wX0_count_103, wX0_count_104, wX0_count_105, wX0_count_108, wX0_count_111, wX0_count_112, wX0_count_113, wX0_count_116, wX0_count_119, wX0_count_122, wX0_count_123, wX0_count_124, wX0_count_125, wX0_count_128, wX0_count_131, wX0_count_134, wX0_count_135, wX0_count_136, wX0_count_137, wX0_count_140, wX0_count_143, wX0_count_146, wX0_count_147, wX0_count_148, wX0_count_151, wX0_count_154, wX0_count_155, wX0_count_158, wX0_count_161, wX0_count_164, wX0_count_167, wX0_count_168, wX0_count_171, wX0_count_172, wX0_count_173, wX0_count_174, wX0_count_175, wX0_count_178, wX0_count_181, wX0_count_184, uX0_count_184, wX0_count_187, wX0_count_188, wX0_count_191, wX0_count_192, wX0_count_193, wX0_count_194, wX0_count_197, wX0_count_198, wX0_count_199, amSI_1, amSI_2, amSI_3, amSI_s, amU_at, amIsR_ref, amIsR_null, amIsR_rf, amRf_some, amRf_none, amClr_int, amClr_ref, amClr_null, amClr_long, amClr_ra, amClr_rf, amFit_int, amFit_oref, amFit_aref, amFit_onull, amFit_anull, amOptSome, amOptNone, List.cons_append, List.nil_append, true_and, and_true, true_implies, not_true_eq_false, not_false_eq_true, false_implies, and_self, Nat.add_zero, Nat.zero_add, ne_eq, Prod.mk.injEq, amC01_0, amC01_1, amC01_nb, amNb0, amNb1, amTcpI_d, Nat.reduceLeDiff, Nat.reduceAdd, Nat.reduceSub, Nat.reduceEqDiff, Nat.le_refl, amN0le, hR.s, hR.r, hR]
  refine goPre hA 0 (by decide) (fun m' q1 q2 => ?_)
  have key := hK m' q2
  have m25 : m' 25 = h.2.1 25 := q2 25 (by decide)
  have m28 : m' 28 1 = nI S.ord.length := by rw [q2 28 (by decide)]; exact hm
  have m24 : m' 24 15 = nI um := by rw [q2 24 (by decide)]; exact hu
  have hS' : HsIs m' 25 S := hS.kept (fun i h1 h2 => q2 i (by omega))
  have f1 := hS'.prior
  have f2 := hS'.span
  have f3 := hS'.bound
  have f4 := hS'.rule
  have pr : ∀ {y : Int32}, K (some (.int y)) (amSI h m') → amRet 0 0 K (some (.int y)) (amSI h m') 0 0 := fun z => amRet.of (by decide) (by decide) z
  refine goX0_count hF 60 ?_
  simp (disch := omega) only [wX0_count_0, uX0_count_0, wX0_count_1, wX0_count_2, wX0_count_5, wX0_count_8, wX0_count_9, wX0_count_12, uX0_count_12, wX0_count_13, wX0_count_72, wX0_count_73, wX0_count_76, wX0_count_79, wX0_count_80, wX0_count_81, wX0_count_84, wX0_count_87, wX0_count_88, wX0_count_89, wX0_count_92, wX0_count_95, wX0_count_96, wX0_count_97, wX0_count_100, wX0_count_103, wX0_count_104, wX0_count_105, wX0_count_108, wX0_count_111, wX0_count_112, wX0_count_113, wX0_count_116, wX0_count_119, wX0_count_122, wX0_count_123, wX0_count_124, wX0_count_125, wX0_count_128, wX0_count_131, wX0_count_134, wX0_count_135, wX0_count_136, wX0_count_137, wX0_count_140, wX0_count_143, wX0_count_146, wX0_count_147, wX0_count_148, wX0_count_151, wX0_count_154, wX0_count_155, wX0_count_158, wX0_count_161, wX0_count_164, wX0_count_167, wX0_count_168, wX0_count_171, wX0_count_172, wX0_count_173, wX0_count_174, wX0_count_175, wX0_count_178, wX0_count_181, wX0_count_184, uX0_count_184, wX0_count_187, wX0_count_188, wX0_count_191, wX0_count_192, wX0_count_193, wX0_count_194, wX0_count_197, wX0_count_198, wX0_count_199, amSI_1, amSI_2, amSI_3, amSI_s, amU_at, amIsR_ref, amIsR_null, amIsR_rf, amRf_some, amRf_none, amClr_int, amClr_ref, amClr_null, amClr_long, amClr_ra, amClr_rf, amFit_int, amFit_oref, amFit_aref, amFit_onull, amFit_anull, amOptSome, amOptNone, List.cons_append, List.nil_append, true_and, and_true, true_implies, not_true_eq_false, not_false_eq_true, false_implies, and_self, Nat.add_zero, Nat.zero_add, ne_eq, Prod.mk.injEq, amC01_0, amC01_1, amC01_nb, amNb0, amNb1, amTcpI_d, Nat.reduceLeDiff, Nat.reduceAdd, Nat.reduceSub, Nat.reduceEqDiff, Nat.le_refl, amN0le, hR.s, hR.r, tX1_many_d, m28, m24, f1, f2, f3, f4, tX7_number_d, tX0_peak_d, tX0_loss_d, tX7_holds_d, tX0_doesFit_d]
  refine ⟨fun z0 => ?_, fun z0 => ⟨fun z1 => ?_, fun z1 => ⟨fun z2 => ?_, fun z2 => ⟨fun z3 => ?_, fun z3 => ⟨fun z4 => ?_, fun z4 => ⟨fun z5 => ⟨S.ord, hbd, hS'.ord, ?_⟩, fun z5 => ⟨fun z6 => ⟨(S.rd S.ord 0).2, hR, by rw [len], by omega, q1.pk, ?_⟩, fun z6 => ⟨fun z7 => ⟨(S.rd S.ord 0).2, hR, by rw [len], by omega, q1.ls, ?_⟩, fun z7 => ⟨fun z8 => ⟨S.ord, _, hbd, hS'.ord, hS'.hold hA.2.2.1.2.2.2.2.1, fun y => ?_, fun y => ?_⟩, fun z8 => ⟨fun z9 => ⟨S, S.ord, ?_, fun m2 y => ?_⟩, fun z9 => ⟨fun z10 => ?_, fun z10 => ?_⟩⟩⟩⟩⟩⟩⟩⟩⟩⟩⟩
  · rw [countV, if_pos z0] at key; exact pr key
  · rw [countV, if_neg z0, if_pos z1] at key; exact pr key
  · rw [countV, if_neg z0, if_neg z1, if_pos z2] at key; exact pr key
  · rw [countV, if_neg z0, if_neg z1, if_neg z2, if_pos z3] at key; exact pr key
  · rw [countV, if_neg z0, if_neg z1, if_neg z2, if_neg z3, if_pos z4] at key; exact pr key
  · rw [countV, if_neg z0, if_neg z1, if_neg z2, if_neg z3, if_neg z4, if_pos z5] at key; exact pr key
  · rw [countV, if_neg z0, if_neg z1, if_neg z2, if_neg z3, if_neg z4, if_neg z5, if_pos z6] at key; exact pr key
  · rw [countV, if_neg z0, if_neg z1, if_neg z2, if_neg z3, if_neg z4, if_neg z5, if_neg z6, if_pos z7] at key; exact pr key
  · rw [countV, if_neg z0, if_neg z1, if_neg z2, if_neg z3, if_neg z4, if_neg z5, if_neg z6, if_neg z7, if_pos z8] at key
    have y2 : ¬ S.holds S.ord = true := y
    rw [amC01_f y2] at key
    exact pr key
  · rw [countV, if_neg z0, if_neg z1, if_neg z2, if_neg z3, if_neg z4, if_neg z5, if_neg z6, if_neg z7, if_pos z8] at key
    have y2 : ¬ ¬ S.holds S.ord = true := y
    rw [amC01_t (Classical.not_not.mp y2)] at key
    exact pr key
  · exact ⟨hR, hS', hA.rd.2.2.1, hA.rd.2.2.2.1, hA.rd.2.2.2.2.1, hbd, hS'.ord, Or.inl (by decide), hA.2.2.1.2.2.2.2.1⟩
  · have key := hK m2 (fun i hi => (y i hi).trans (q2 i hi))
    rw [countV, if_neg z0, if_neg z1, if_neg z2, if_neg z3, if_neg z4, if_neg z5, if_neg z6, if_neg z7, if_neg z8, if_pos z9] at key
    refine goX0_count hF 60 ?_
    simp (disch := omega) only [wX0_count_0, uX0_count_0, wX0_count_1, wX0_count_2, wX0_count_5, wX0_count_8, wX0_count_9, wX0_count_12, uX0_count_12, wX0_count_13, wX0_count_72, wX0_count_73, wX0_count_76, wX0_count_79, wX0_count_80, wX0_count_81, wX0_count_84, wX0_count_87, wX0_count_88, wX0_count_89, wX0_count_92, wX0_count_95, wX0_count_96, wX0_count_97, wX0_count_100, wX0_count_103, wX0_count_104, wX0_count_105, wX0_count_108, wX0_count_111, wX0_count_112, wX0_count_113, wX0_count_116, wX0_count_119, wX0_count_122, wX0_count_123, wX0_count_124, wX0_count_125, wX0_count_128, wX0_count_131, wX0_count_134, wX0_count_135, wX0_count_136, wX0_count_137, wX0_count_140, wX0_count_143, wX0_count_146, wX0_count_147, wX0_count_148, wX0_count_151, wX0_count_154, wX0_count_155, wX0_count_158, wX0_count_161, wX0_count_164, wX0_count_167, wX0_count_168, wX0_count_171, wX0_count_172, wX0_count_173, wX0_count_174, wX0_count_175, wX0_count_178, wX0_count_181, wX0_count_184, uX0_count_184, wX0_count_187, wX0_count_188, wX0_count_191, wX0_count_192, wX0_count_193, wX0_count_194, wX0_count_197, wX0_count_198, wX0_count_199, amSI_1, amSI_2, amSI_3, amSI_s, amU_at, amIsR_ref, amIsR_null, amIsR_rf, amRf_some, amRf_none, amClr_int, amClr_ref, amClr_null, amClr_long, amClr_ra, amClr_rf, amFit_int, amFit_oref, amFit_aref, amFit_onull, amFit_anull, amOptSome, amOptNone, List.cons_append, List.nil_append, true_and, and_true, true_implies, not_true_eq_false, not_false_eq_true, false_implies, and_self, Nat.add_zero, Nat.zero_add, ne_eq, Prod.mk.injEq, amC01_0, amC01_1, amC01_nb, amNb0, amNb1, amTcpI_d, Nat.reduceLeDiff, Nat.reduceAdd, Nat.reduceSub, Nat.reduceEqDiff, Nat.le_refl, amN0le, hR.s, hR.r]
    refine ⟨fun r => ?_, fun r => ?_⟩
    · rw [amC01_f r] at key
      exact amRet.of (by decide) (by decide) key
    · rw [amC01_t (Classical.not_not.mp r)] at key
      exact amRet.of (by decide) (by decide) key
  · rw [countV, if_neg z0, if_neg z1, if_neg z2, if_neg z3, if_neg z4, if_neg z5, if_neg z6, if_neg z7, if_neg z8, if_neg z9, if_pos z10] at key; exact pr key
  · rw [countV, if_neg z0, if_neg z1, if_neg z2, if_neg z3, if_neg z4, if_neg z5, if_neg z6, if_neg z7, if_neg z8, if_neg z9, if_neg z10] at key; exact pr key
theorem tX0_count_d {a : Nat} {w : Int32} {h : amH} {K : Option Value → amH → Prop} : tX0_count [.ref a, .int w] h K = ∃ (S : HS) (um : Nat), a = (24 : Nat) ∧ sysPre h S ∧ h.2.1 24 15 = nI um ∧ ∀ m', rdFr h.2.1 m' → K (some (.int (countV S um w))) (amSI h m') := rfl
