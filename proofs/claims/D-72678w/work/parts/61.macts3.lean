/-! the reference's inner acts: comesTo, puts, shifts, settles -/
set_option maxRecDepth 100000
/-- coming from one: it itself, and all behind it -/
theorem bhFold_in {A : List Nat} {D : Nat} (hD : ∀ k, k < A.length → D.testBit k = true → subB (A.getD k 0) D) : ∀ p s, p ≤ A.length → subB s D → subB ((List.range p).foldl (bhStep A) s) D
  | 0, s, _, h => h
  | p + 1, s, hp, h => by
    rw [range_fold]
    have ih := bhFold_in hD p s (by omega) h
    generalize (List.range p).foldl (bhStep A) s = F at ih
    intro i hi
    unfold bhStep at hi
    by_cases q : F.testBit p = true
    · rw [if_pos q, Nat.testBit_or, Bool.or_eq_true] at hi
      rcases hi with hi | hi
      · exact ih i hi
      · exact hD p (by omega) (ih p q) i hi
    · rw [if_neg q] at hi
      exact ih i hi
theorem bhN_in {A : List Nat} {D : Nat} (hD : ∀ k, k < A.length → D.testBit k = true → subB (A.getD k 0) D) : ∀ t s, subB s D → subB (bhN A t s) D
  | 0, _, h => h
  | t + 1, s, h => bhFold_in hD A.length _ (Nat.le_refl _) (bhN_in hD t s h)
theorem comes_eq {S : HS} (h : hsOk S) {b a : Nat} (hb : b < S.ord.length) (hne : a ≠ b) : (bhN S.ahead 7 (2 ^ b)).testBit a = (S.behind b).testBit a := by
  have hA := h.a128
  have n7 := h.n7
  have hlA : S.ahead.length ≤ 7 := by rw [h.la]; exact n7
  have b128 : 2 ^ b < 128 := Nat.pow_lt_pow_right (by decide) (by omega : b < 7)
  have al := getD_lt (by decide) hA b
  have c1 := fun k (hk : k < S.ahead.length) (q : (bhN S.ahead 7 (S.ahead.getD b 0)).testBit k = true) => behind_closed hA hlA al hk q
  have c2 := fun k (hk : k < S.ahead.length) (q : (bhN S.ahead 7 (2 ^ b)).testBit k = true) => behind_closed hA hlA b128 hk q
  have s1 : subB (S.ahead.getD b 0) (bhN S.ahead 7 (S.ahead.getD b 0)) := behind_sub 7 _
  have s2 : subB (2 ^ b) (bhN S.ahead 7 (2 ^ b)) := behind_sub 7 _
  have bb : (bhN S.ahead 7 (2 ^ b)).testBit b = true := s2 b (by rw [Nat.testBit_two_pow]; simp)
  have i1 : subB (bhN S.ahead 7 (S.ahead.getD b 0)) (bhN S.ahead 7 (2 ^ b)) := bhN_in c2 7 _ (c2 b (by rw [h.la]; exact hb) bb)
  have i2 : subB (bhN S.ahead 7 (2 ^ b)) (2 ^ b ||| bhN S.ahead 7 (S.ahead.getD b 0)) := by
    refine bhN_in (fun k hk q => ?_) 7 _ (fun i hi => by rw [Nat.testBit_or, hi]; rfl)
    rw [Nat.testBit_or, Bool.or_eq_true, Nat.testBit_two_pow, decide_eq_true_eq] at q
    intro i hi
    rw [Nat.testBit_or, Bool.or_eq_true]
    right
    rcases q with q | q
    · subst q
      exact s1 i hi
    · exact c1 k hk q i hi
  show _ = (bhN S.ahead 7 (S.ahead.getD b 0)).testBit a
  cases ha : (bhN S.ahead 7 (S.ahead.getD b 0)).testBit a with
  | true => exact i1 a ha
  | false =>
    cases hc : (bhN S.ahead 7 (2 ^ b)).testBit a with
    | false => rfl
    | true =>
      have := i2 a hc
      rw [Nat.testBit_or, ha, Bool.or_false, Nat.testBit_two_pow, decide_eq_true_eq] at this
      exact absurd this.symm hne
def tX6_comesTo : amT := fun as h K => match as with
  | [.ref t, .int a0, .int b0] => ∃ (S : HS) (a b : Nat), t = (124 : Nat) ∧ a0 = nI a ∧ b0 = nI b ∧ a < S.ord.length ∧ b < S.ord.length ∧ mdSys h S ∧ K (some (.int (amC01 ((bhN S.ahead 7 (2 ^ a)).testBit b = true)))) h
  | _ => False
/-! ReadingStagesModel.comesTo(II)Z -/
def kX6_comesTo : Nat → Bool := fun pc => pc == 7 || pc == 17
def rX6_comesTo : List (Nat × amS) := [(20, 1, 0, 0, amTget 6 0), (32, 2, 0, 0, tX6_has), (39, 1, 0, 0, amTget 6 0), (68, 2, 0, 0, tX6_has)]
def eX6_comesTo (ret : Option Value → amH → Nat → Nat → Prop) (F : amX) : Nat → amX := amWp cX6_comesTo kX6_comesTo (amLk rX6_comesTo) (some .boolean) 0 0 ret F
def sX6_comesTo (ret : Option Value → amH → Nat → Nat → Prop) (F : amX) : Nat → amX := amWs cX6_comesTo kX6_comesTo (amLk rX6_comesTo) (some .boolean) 0 0 ret F
theorem wX6_comesTo_0 {ret F n h} {v0 v1 v2 v3 v4 v5 st} : eX6_comesTo ret F (n + 1) 0 [v0, v1, v2, v3, v4, v5] (st) h 0 0 = (eX6_comesTo ret F n 1 [v0, v1, v2, v3, v4, v5] (.int (nI 1) :: st) h 0 0) := (amWp_dec rfl dX6_comesTo_0 rfl).trans rfl
theorem uX6_comesTo_0 {ret F n h} {v0 v1 v2 v3 v4 v5 st} : sX6_comesTo ret F n 0 [v0, v1, v2, v3, v4, v5] (st) h 0 0 = (eX6_comesTo ret F n 1 [v0, v1, v2, v3, v4, v5] (.int (nI 1) :: st) h 0 0) := (amWs_dec dX6_comesTo_0 rfl).trans rfl
theorem wX6_comesTo_1 {ret F n h} {v0 v2 v3 v4 v5 st x} : eX6_comesTo ret F (n + 1) 1 [v0, .int x, v2, v3, v4, v5] (st) h 0 0 = (eX6_comesTo ret F n 2 [v0, .int x, v2, v3, v4, v5] (.int x :: st) h 0 0) := (amWp_dec rfl dX6_comesTo_1 rfl).trans rfl
theorem wX6_comesTo_2 {ret F n h} {v0 v1 v2 v3 v4 v5 st y x} : eX6_comesTo ret F (n + 1) 2 [v0, v1, v2, v3, v4, v5] (.int y :: .int x :: st) h 0 0 = (eX6_comesTo ret F n 3 [v0, v1, v2, v3, v4, v5] (.int (x <<< (y &&& 31)) :: st) h 0 0) := (amWp_dec rfl dX6_comesTo_2 rfl).trans rfl
theorem wX6_comesTo_3 {ret F n h} {v0 v1 v2 v3 v4 v5 st x} : eX6_comesTo ret F (n + 1) 3 [v0, v1, v2, v3, v4, v5] (.int x :: st) h 0 0 = (eX6_comesTo ret F n 4 [v0, v1, amClr v2, .int x, v4, v5] (st) h 0 0) := (amWp_dec rfl dX6_comesTo_3 rfl).trans (amTrue (Nat.le_of_ble_eq_true rfl))
theorem wX6_comesTo_4 {ret F n h} {v0 v1 v2 v3 v4 v5 st} : eX6_comesTo ret F (n + 1) 4 [v0, v1, v2, v3, v4, v5] (st) h 0 0 = (eX6_comesTo ret F n 5 [v0, v1, v2, v3, v4, v5] (.int (nI 0) :: st) h 0 0) := (amWp_dec rfl dX6_comesTo_4 rfl).trans rfl
theorem wX6_comesTo_5 {ret F n h} {v0 v1 v2 v3 v4 v5 st x} : eX6_comesTo ret F (n + 1) 5 [v0, v1, v2, v3, v4, v5] (.int x :: st) h 0 0 = (eX6_comesTo ret F n 7 [v0, v1, v2, amClr v3, .int x, v5] (st) h 0 0) := (amWp_dec rfl dX6_comesTo_5 rfl).trans (amTrue (Nat.le_of_ble_eq_true rfl))
theorem wX6_comesTo_7 {ret F n ls st h k z} : eX6_comesTo ret F (n + 1) 7 ls st h k z = F 7 ls st h k z := amWp_cut rfl
theorem uX6_comesTo_7 {ret F n h} {v0 v1 v2 v3 v5 st x} : sX6_comesTo ret F n 7 [v0, v1, v2, v3, .int x, v5] (st) h 0 0 = (eX6_comesTo ret F n 9 [v0, v1, v2, v3, .int x, v5] (.int x :: st) h 0 0) := (amWs_dec dX6_comesTo_7 rfl).trans rfl
theorem wX6_comesTo_9 {ret F n h} {v0 v1 v2 v3 v4 v5 st} : eX6_comesTo ret F (n + 1) 9 [v0, v1, v2, v3, v4, v5] (st) h 0 0 = (eX6_comesTo ret F n 11 [v0, v1, v2, v3, v4, v5] (.int (nI 7) :: st) h 0 0) := (amWp_dec rfl dX6_comesTo_9 rfl).trans rfl
theorem wX6_comesTo_11 {ret F n h} {v0 v1 v2 v3 v4 v5 st y x} : eX6_comesTo ret F (n + 1) 11 [v0, v1, v2, v3, v4, v5] (.int y :: .int x :: st) h 0 0 = ((y ≤ x → eX6_comesTo ret F n 66 [v0, v1, v2, v3, v4, v5] (st) h 0 0) ∧ (¬ y ≤ x → eX6_comesTo ret F n 14 [v0, v1, v2, v3, v4, v5] (st) h 0 0)) := (amWp_dec rfl dX6_comesTo_11 rfl).trans rfl
theorem wX6_comesTo_14 {ret F n h} {v0 v1 v2 v3 v4 v5 st} : eX6_comesTo ret F (n + 1) 14 [v0, v1, v2, v3, v4, v5] (st) h 0 0 = (eX6_comesTo ret F n 15 [v0, v1, v2, v3, v4, v5] (.int (nI 0) :: st) h 0 0) := (amWp_dec rfl dX6_comesTo_14 rfl).trans rfl
theorem wX6_comesTo_15 {ret F n h} {v0 v1 v2 v3 v4 v5 st x} : eX6_comesTo ret F (n + 1) 15 [v0, v1, v2, v3, v4, v5] (.int x :: st) h 0 0 = (eX6_comesTo ret F n 17 [v0, v1, v2, v3, amClr v4, .int x] (st) h 0 0) := (amWp_dec rfl dX6_comesTo_15 rfl).trans (amTrue (Nat.le_of_ble_eq_true rfl))
theorem wX6_comesTo_17 {ret F n ls st h k z} : eX6_comesTo ret F (n + 1) 17 ls st h k z = F 17 ls st h k z := amWp_cut rfl
theorem uX6_comesTo_17 {ret F n h} {v0 v1 v2 v3 v4 st x} : sX6_comesTo ret F n 17 [v0, v1, v2, v3, v4, .int x] (st) h 0 0 = (eX6_comesTo ret F n 19 [v0, v1, v2, v3, v4, .int x] (.int x :: st) h 0 0) := (amWs_dec dX6_comesTo_17 rfl).trans rfl
theorem wX6_comesTo_19 {ret F n h} {v0 v1 v2 v3 v4 v5 st} : eX6_comesTo ret F (n + 1) 19 [v0, v1, v2, v3, v4, v5] (st) h 0 0 = (amIsR v0 ∧ eX6_comesTo ret F n 20 [v0, v1, v2, v3, v4, v5] (v0 :: st) h 0 0) := (amWp_dec rfl dX6_comesTo_19 rfl).trans rfl
theorem wX6_comesTo_20 {ret F n h} {v0 v1 v2 v3 v4 v5 r0 a} : eX6_comesTo ret F (n + 1) 20 [v0, v1, v2, v3, v4, v5] (.ref a :: r0 :: []) h 0 0 = (h.1 a = (0, 6) ∧ eX6_comesTo ret F n 23 [v0, v1, v2, v3, v4, v5] (va_rf (h.2.2.2.1 a 0) :: r0 :: []) h 0 0) := (amWp_dec rfl dX6_comesTo_20 rfl).trans (amS4 (Nat.le_of_ble_eq_true rfl) (Nat.le_of_ble_eq_true rfl) (Nat.le_of_ble_eq_true rfl) (Nat.le_of_ble_eq_true rfl))
theorem wX6_comesTo_23 {ret F n h} {v0 v1 v2 v3 v4 v5 st} : eX6_comesTo ret F (n + 1) 23 [v0, v1, v2, v3, v4, v5] (st) h 0 0 = (eX6_comesTo ret F n 24 [v0, v1, v2, v3, v4, v5] (.int (nI 0) :: st) h 0 0) := (amWp_dec rfl dX6_comesTo_23 rfl).trans rfl
theorem wX6_comesTo_24 {ret F n h} {v0 v1 v2 v3 v4 v5 st x a} : eX6_comesTo ret F (n + 1) 24 [v0, v1, v2, v3, v4, v5] (.int x :: .ref a :: st) h 0 0 = ((h.1 a).1 = 1 ∧ vp_in x (h.1 a).2 ∧ eX6_comesTo ret F n 25 [v0, v1, v2, v3, v4, v5] (.int (h.2.1 a x.toNatClampNeg) :: st) h 0 0) := (amWp_dec rfl dX6_comesTo_24 rfl).trans rfl
theorem wX6_comesTo_25 {ret F n h} {v0 v1 v2 v3 v4 v5 st y x} : eX6_comesTo ret F (n + 1) 25 [v0, v1, v2, v3, v4, v5] (.int y :: .int x :: st) h 0 0 = ((y ≤ x → eX6_comesTo ret F n 60 [v0, v1, v2, v3, v4, v5] (st) h 0 0) ∧ (¬ y ≤ x → eX6_comesTo ret F n 28 [v0, v1, v2, v3, v4, v5] (st) h 0 0)) := (amWp_dec rfl dX6_comesTo_25 rfl).trans rfl
theorem wX6_comesTo_28 {ret F n h} {v0 v1 v2 v4 v5 st x} : eX6_comesTo ret F (n + 1) 28 [v0, v1, v2, .int x, v4, v5] (st) h 0 0 = (eX6_comesTo ret F n 29 [v0, v1, v2, .int x, v4, v5] (.int x :: st) h 0 0) := (amWp_dec rfl dX6_comesTo_28 rfl).trans rfl
theorem wX6_comesTo_29 {ret F n h} {v0 v1 v2 v4 v5 st x} : eX6_comesTo ret F (n + 1) 29 [v0, v1, v2, .int x, v4, v5] (st) h 0 0 = (eX6_comesTo ret F n 30 [v0, v1, v2, .int x, v4, v5] (.int x :: st) h 0 0) := (amWp_dec rfl dX6_comesTo_29 rfl).trans rfl
theorem wX6_comesTo_30 {ret F n h} {v0 v1 v2 v3 v4 st x} : eX6_comesTo ret F (n + 1) 30 [v0, v1, v2, v3, v4, .int x] (st) h 0 0 = (eX6_comesTo ret F n 32 [v0, v1, v2, v3, v4, .int x] (.int x :: st) h 0 0) := (amWp_dec rfl dX6_comesTo_30 rfl).trans rfl
theorem wX6_comesTo_32 {ret F n h} {v0 v1 v2 v3 v4 v5 x1 x0 r0} : eX6_comesTo ret F (n + 1) 32 [v0, v1, v2, v3, v4, v5] (.int x1 :: .int x0 :: r0 :: []) h 0 0 = (tX6_has [.int x0, .int x1] h (fun v h => eX6_comesTo ret F n 35 [v0, v1, v2, v3, v4, v5] (v.toList ++ (r0 :: [])) h 0 0)) := (amWp_dec rfl dX6_comesTo_32 rfl).trans (amS4 (Nat.le_of_ble_eq_true rfl) (Nat.le_of_ble_eq_true rfl) (Nat.le_of_ble_eq_true rfl) (Nat.le_of_ble_eq_true rfl))
theorem wX6_comesTo_35 {ret F n h} {v0 v1 v2 v3 v4 v5 st x} : eX6_comesTo ret F (n + 1) 35 [v0, v1, v2, v3, v4, v5] (.int x :: st) h 0 0 = ((x = 0 → eX6_comesTo ret F n 51 [v0, v1, v2, v3, v4, v5] (st) h 0 0) ∧ (¬ x = 0 → eX6_comesTo ret F n 38 [v0, v1, v2, v3, v4, v5] (st) h 0 0)) := (amWp_dec rfl dX6_comesTo_35 rfl).trans rfl
theorem wX6_comesTo_38 {ret F n h} {v0 v1 v2 v3 v4 v5 st} : eX6_comesTo ret F (n + 1) 38 [v0, v1, v2, v3, v4, v5] (st) h 0 0 = (amIsR v0 ∧ eX6_comesTo ret F n 39 [v0, v1, v2, v3, v4, v5] (v0 :: st) h 0 0) := (amWp_dec rfl dX6_comesTo_38 rfl).trans rfl
theorem wX6_comesTo_39 {ret F n h} {v0 v1 v2 v3 v4 v5 r0 a} : eX6_comesTo ret F (n + 1) 39 [v0, v1, v2, v3, v4, v5] (.ref a :: r0 :: []) h 0 0 = (h.1 a = (0, 6) ∧ eX6_comesTo ret F n 42 [v0, v1, v2, v3, v4, v5] (va_rf (h.2.2.2.1 a 0) :: r0 :: []) h 0 0) := (amWp_dec rfl dX6_comesTo_39 rfl).trans (amS4 (Nat.le_of_ble_eq_true rfl) (Nat.le_of_ble_eq_true rfl) (Nat.le_of_ble_eq_true rfl) (Nat.le_of_ble_eq_true rfl))
theorem wX6_comesTo_42 {ret F n h} {v0 v1 v2 v3 v4 v5 st} : eX6_comesTo ret F (n + 1) 42 [v0, v1, v2, v3, v4, v5] (st) h 0 0 = (eX6_comesTo ret F n 44 [v0, v1, v2, v3, v4, v5] (.int (nI 20) :: st) h 0 0) := (amWp_dec rfl dX6_comesTo_42 rfl).trans rfl
theorem wX6_comesTo_44 {ret F n h} {v0 v1 v2 v3 v4 st x} : eX6_comesTo ret F (n + 1) 44 [v0, v1, v2, v3, v4, .int x] (st) h 0 0 = (eX6_comesTo ret F n 46 [v0, v1, v2, v3, v4, .int x] (.int x :: st) h 0 0) := (amWp_dec rfl dX6_comesTo_44 rfl).trans rfl
theorem wX6_comesTo_46 {ret F n h} {v0 v1 v2 v3 v4 v5 st y x} : eX6_comesTo ret F (n + 1) 46 [v0, v1, v2, v3, v4, v5] (.int y :: .int x :: st) h 0 0 = (eX6_comesTo ret F n 47 [v0, v1, v2, v3, v4, v5] (.int (x + y) :: st) h 0 0) := (amWp_dec rfl dX6_comesTo_46 rfl).trans rfl
theorem wX6_comesTo_47 {ret F n h} {v0 v1 v2 v3 v4 v5 st x a} : eX6_comesTo ret F (n + 1) 47 [v0, v1, v2, v3, v4, v5] (.int x :: .ref a :: st) h 0 0 = ((h.1 a).1 = 1 ∧ vp_in x (h.1 a).2 ∧ eX6_comesTo ret F n 48 [v0, v1, v2, v3, v4, v5] (.int (h.2.1 a x.toNatClampNeg) :: st) h 0 0) := (amWp_dec rfl dX6_comesTo_47 rfl).trans rfl
theorem wX6_comesTo_48 {ret F n h} {v0 v1 v2 v3 v4 v5 st} : eX6_comesTo ret F (n + 1) 48 [v0, v1, v2, v3, v4, v5] (st) h 0 0 = (eX6_comesTo ret F n 52 [v0, v1, v2, v3, v4, v5] (st) h 0 0) := (amWp_dec rfl dX6_comesTo_48 rfl).trans rfl
theorem wX6_comesTo_51 {ret F n h} {v0 v1 v2 v3 v4 v5 st} : eX6_comesTo ret F (n + 1) 51 [v0, v1, v2, v3, v4, v5] (st) h 0 0 = (eX6_comesTo ret F n 52 [v0, v1, v2, v3, v4, v5] (.int (nI 0) :: st) h 0 0) := (amWp_dec rfl dX6_comesTo_51 rfl).trans rfl
theorem wX6_comesTo_52 {ret F n h} {v0 v1 v2 v3 v4 v5 st y x} : eX6_comesTo ret F (n + 1) 52 [v0, v1, v2, v3, v4, v5] (.int y :: .int x :: st) h 0 0 = (eX6_comesTo ret F n 53 [v0, v1, v2, v3, v4, v5] (.int (x ||| y) :: st) h 0 0) := (amWp_dec rfl dX6_comesTo_52 rfl).trans rfl
theorem wX6_comesTo_53 {ret F n h} {v0 v1 v2 v3 v4 v5 st x} : eX6_comesTo ret F (n + 1) 53 [v0, v1, v2, v3, v4, v5] (.int x :: st) h 0 0 = (eX6_comesTo ret F n 54 [v0, v1, amClr v2, .int x, v4, v5] (st) h 0 0) := (amWp_dec rfl dX6_comesTo_53 rfl).trans (amTrue (Nat.le_of_ble_eq_true rfl))
theorem wX6_comesTo_54 {ret F n h} {v0 v1 v2 v3 v4 st x} : eX6_comesTo ret F (n + 1) 54 [v0, v1, v2, v3, v4, .int x] (st) h 0 0 = (eX6_comesTo ret F n 57 [v0, v1, v2, v3, amClr v4, .int (x + nI 1)] (st) h 0 0) := (amWp_dec rfl dX6_comesTo_54 rfl).trans rfl
theorem wX6_comesTo_57 {ret F n h} {v0 v1 v2 v3 v4 v5 st} : eX6_comesTo ret F (n + 1) 57 [v0, v1, v2, v3, v4, v5] (st) h 0 0 = (eX6_comesTo ret F n 17 [v0, v1, v2, v3, v4, v5] (st) h 0 0) := (amWp_dec rfl dX6_comesTo_57 rfl).trans rfl
theorem wX6_comesTo_60 {ret F n h} {v0 v1 v2 v3 v5 st x} : eX6_comesTo ret F (n + 1) 60 [v0, v1, v2, v3, .int x, v5] (st) h 0 0 = (eX6_comesTo ret F n 63 [v0, v1, v2, amClr v3, .int (x + nI 1), v5] (st) h 0 0) := (amWp_dec rfl dX6_comesTo_60 rfl).trans rfl
theorem wX6_comesTo_63 {ret F n h} {v0 v1 v2 v3 v4 v5 st} : eX6_comesTo ret F (n + 1) 63 [v0, v1, v2, v3, v4, v5] (st) h 0 0 = (eX6_comesTo ret F n 7 [v0, v1, v2, v3, v4, v5] (st) h 0 0) := (amWp_dec rfl dX6_comesTo_63 rfl).trans rfl
theorem wX6_comesTo_66 {ret F n h} {v0 v1 v2 v4 v5 st x} : eX6_comesTo ret F (n + 1) 66 [v0, v1, v2, .int x, v4, v5] (st) h 0 0 = (eX6_comesTo ret F n 67 [v0, v1, v2, .int x, v4, v5] (.int x :: st) h 0 0) := (amWp_dec rfl dX6_comesTo_66 rfl).trans rfl
theorem wX6_comesTo_67 {ret F n h} {v0 v1 v3 v4 v5 st x} : eX6_comesTo ret F (n + 1) 67 [v0, v1, .int x, v3, v4, v5] (st) h 0 0 = (eX6_comesTo ret F n 68 [v0, v1, .int x, v3, v4, v5] (.int x :: st) h 0 0) := (amWp_dec rfl dX6_comesTo_67 rfl).trans rfl
theorem wX6_comesTo_68 {ret F n h} {v0 v1 v2 v3 v4 v5 x1 x0} : eX6_comesTo ret F (n + 1) 68 [v0, v1, v2, v3, v4, v5] (.int x1 :: .int x0 :: []) h 0 0 = (tX6_has [.int x0, .int x1] h (fun v h => eX6_comesTo ret F n 71 [v0, v1, v2, v3, v4, v5] (v.toList ++ ([])) h 0 0)) := (amWp_dec rfl dX6_comesTo_68 rfl).trans (amS4 (Nat.le_of_ble_eq_true rfl) (Nat.le_of_ble_eq_true rfl) (Nat.le_of_ble_eq_true rfl) (Nat.le_of_ble_eq_true rfl))
theorem wX6_comesTo_71 {ret F n h} {v0 v1 v2 v3 v4 v5 x} : eX6_comesTo ret F (n + 1) 71 [v0, v1, v2, v3, v4, v5] ([.int x]) h 0 0 = (narrow .boolean (.int x) = .int x ∧ ret (some (.int x)) h 0 0) := (amWp_dec rfl dX6_comesTo_71 rfl).trans (amRetTy)
theorem evX6_comesTo (l : Launch) (G : amG) : ∀ pc S i sz, amLk rX6_comesTo pc = some S → decode cX6_comesTo pc = .ok (i, sz) → amSiteP pc G l yX6_comesTo.cls yX6_comesTo.name yX6_comesTo.desc (amRm 2 0 0) i sz S.1 S.2.1 S.2.2.1 S.2.2.2 := amLk_ok (by
  refine List.forall_mem_cons.mpr ⟨⟨_, _, dX6_comesTo_20, amSite.P (amSiteGet ⟨_, rfl, by decide, Or.inl q1295⟩)⟩, ?_⟩
  refine List.forall_mem_cons.mpr ⟨⟨_, _, dX6_comesTo_32, amSite.P (amSiteS (metX6_has l G) rfl (by decide) (by decide) (lw_S q1404 q1405 q94 q1406) ⟨by decide +kernel, by decide +kernel, by decide +kernel⟩)⟩, ?_⟩
  refine List.forall_mem_cons.mpr ⟨⟨_, _, dX6_comesTo_39, amSite.P (amSiteGet ⟨_, rfl, by decide, Or.inl q1295⟩)⟩, ?_⟩
  refine List.forall_mem_cons.mpr ⟨⟨_, _, dX6_comesTo_68, amSite.P (amSiteS (metX6_has l G) rfl (by decide) (by decide) (lw_S q1404 q1405 q94 q1406) ⟨by decide +kernel, by decide +kernel, by decide +kernel⟩)⟩, ?_⟩
  exact fun _ h => absurd h List.not_mem_nil)
theorem goX6_comesTo {ret F} (hF : amCld cX6_comesTo kX6_comesTo (amLk rX6_comesTo) (some .boolean) 0 0 ret F) (n : Nat) {pc ls st h k z} (q : sX6_comesTo ret F n pc ls st h k z) : F pc ls st h k z := hF.1 n pc ls st h k z q
theorem metX6_comesTo (l : Launch) (G : amG) : amMet l G yX6_comesTo (ws_ yX6_comesTo cX6_comesTo 6 (some .boolean)) 2 0 0 tX6_comesTo := by
  refine amMet_of (cut := kX6_comesTo) (by decide +kernel) (evX6_comesTo l G) ?_
  intro as h K hT
  match as, hT with
  | [.ref t, .int a0, .int b0], ⟨S, a, b, e1, e2, e3, ha, hb, hA, hK⟩ =>
  refine ⟨Nat.le_of_ble_eq_true rfl, fun F hF => ?_⟩
  show F 0 [.ref t, .int a0, .int b0, .retAddr 0, .retAddr 0, .retAddr 0] [] h 0 0
  obtain ⟨t, rfl⟩ : ∃ i : Nat, i = t := ⟨_, rfl⟩
  subst e1; subst e2; subst e3
  have hR := hA.1
  have hS := hA.2.1
  have hO := hA.2.2
  have n7 := hS.n7
  have hn : h.2.1 125 0 = nI S.ord.length := hS.n
  have a128 : 2 ^ a < 128 := Nat.pow_lt_pow_right (by decide) (by omega : a < 7)
  have outer : ∀ u r, r + u = 7 → ∀ v5, F 7 [.ref 124, .int (nI a), .int (nI b), .int (nI (bhN S.ahead r (2 ^ a))), .int (nI r), v5] [] h 0 0 := by
    intro u
    induction u with
    | zero =>
      intro r e v5
      have e : r = 7 := by omega
      subst e
      have lt := bhN_lt hO.a128 7 _ a128
      refine goX6_comesTo hF 60 ?_
      simp (disch := omega) only [wX6_comesTo_0, uX6_comesTo_0, wX6_comesTo_1, wX6_comesTo_2, wX6_comesTo_3, wX6_comesTo_4, wX6_comesTo_5, wX6_comesTo_7, uX6_comesTo_7, wX6_comesTo_9, wX6_comesTo_11, wX6_comesTo_14, wX6_comesTo_15, wX6_comesTo_17, uX6_comesTo_17, wX6_comesTo_19, wX6_comesTo_20, wX6_comesTo_23, wX6_comesTo_24, wX6_comesTo_25, wX6_comesTo_28, wX6_comesTo_29, wX6_comesTo_30, wX6_comesTo_32, wX6_comesTo_35, wX6_comesTo_38, wX6_comesTo_39, wX6_comesTo_42, wX6_comesTo_44, wX6_comesTo_46, wX6_comesTo_47, wX6_comesTo_48, wX6_comesTo_51, wX6_comesTo_52, wX6_comesTo_53, wX6_comesTo_54, wX6_comesTo_57, wX6_comesTo_60, wX6_comesTo_63, wX6_comesTo_66, wX6_comesTo_67, wX6_comesTo_68, wX6_comesTo_71, amSI_1, amSI_2, amSI_3, amSI_s, amU_at, amIsR_ref, amIsR_null, amIsR_rf, amRf_some, amRf_none, amClr_int, amClr_ref, amClr_null, amClr_long, amClr_ra, amClr_rf, amFit_int, amFit_oref, amFit_aref, amFit_onull, amFit_anull, amOptSome, amOptNone, List.cons_append, List.nil_append, true_and, and_true, true_implies, not_true_eq_false, not_false_eq_true, false_implies, and_self, Nat.add_zero, Nat.zero_add, ne_eq, Prod.mk.injEq, amC01_0, amC01_1, amC01_nb, amNb0, amNb1, amTcpI_d, Nat.reduceLeDiff, Nat.reduceAdd, Nat.reduceSub, Nat.reduceEqDiff, Nat.le_refl, amN0le, hR.s, hR.r, amLeI, amLtI, amEqI, amLe0, amGt0, amEq0, amNotPosI, amGe0, amVI, amCl_nI, amAdd, amSub, amMul, tX6_has_d, nx_hasI]
      exact amRet.of (by decide) (by decide) hK
    | succ u ih =>
      intro r e v5
      have q : (7 ≤ r) = False := eq_false (by omega)
      have lt := bhN_lt hO.a128 r _ a128
      have inner : ∀ v p, p + v = S.ord.length → F 17 [.ref 124, .int (nI a), .int (nI b), .int (nI ((List.range p).foldl (bhStep S.ahead) (bhN S.ahead r (2 ^ a)))), .int (nI r), .int (nI p)] [] h 0 0 := by
        intro v
        induction v with
        | zero =>
          intro p e2
          have e3 : p = S.ord.length := by omega
          subst e3
          have nx := ih (r + 1) (by omega) (.int (nI S.ord.length))
          rw [bhN, bhRound, hS.la] at nx
          refine goX6_comesTo hF 60 ?_
          simp (disch := omega) only [wX6_comesTo_0, uX6_comesTo_0, wX6_comesTo_1, wX6_comesTo_2, wX6_comesTo_3, wX6_comesTo_4, wX6_comesTo_5, wX6_comesTo_7, uX6_comesTo_7, wX6_comesTo_9, wX6_comesTo_11, wX6_comesTo_14, wX6_comesTo_15, wX6_comesTo_17, uX6_comesTo_17, wX6_comesTo_19, wX6_comesTo_20, wX6_comesTo_23, wX6_comesTo_24, wX6_comesTo_25, wX6_comesTo_28, wX6_comesTo_29, wX6_comesTo_30, wX6_comesTo_32, wX6_comesTo_35, wX6_comesTo_38, wX6_comesTo_39, wX6_comesTo_42, wX6_comesTo_44, wX6_comesTo_46, wX6_comesTo_47, wX6_comesTo_48, wX6_comesTo_51, wX6_comesTo_52, wX6_comesTo_53, wX6_comesTo_54, wX6_comesTo_57, wX6_comesTo_60, wX6_comesTo_63, wX6_comesTo_66, wX6_comesTo_67, wX6_comesTo_68, wX6_comesTo_71, amSI_1, amSI_2, amSI_3, amSI_s, amU_at, amIsR_ref, amIsR_null, amIsR_rf, amRf_some, amRf_none, amClr_int, amClr_ref, amClr_null, amClr_long, amClr_ra, amClr_rf, amFit_int, amFit_oref, amFit_aref, amFit_onull, amFit_anull, amOptSome, amOptNone, List.cons_append, List.nil_append, true_and, and_true, true_implies, not_true_eq_false, not_false_eq_true, false_implies, and_self, Nat.add_zero, Nat.zero_add, ne_eq, Prod.mk.injEq, amC01_0, amC01_1, amC01_nb, amNb0, amNb1, amTcpI_d, Nat.reduceLeDiff, Nat.reduceAdd, Nat.reduceSub, Nat.reduceEqDiff, Nat.le_refl, amN0le, hR.s, hR.r, amLeI, amLtI, amEqI, amLe0, amGt0, amEq0, amNotPosI, amGe0, amVI, amCl_nI, amAdd, amSub, amMul, hn]
          exact nx
        | succ v ihv =>
          intro p e2
          have q2 : (S.ord.length ≤ p) = False := eq_false (by omega)
          have nx := ihv (p + 1) (by omega)
          have ap := hS.a0 p (by omega)
          have fl := bhFold_lt hO.a128 p _ lt
          rw [range_fold] at nx
          refine goX6_comesTo hF 60 ?_
          simp (disch := omega) only [wX6_comesTo_0, uX6_comesTo_0, wX6_comesTo_1, wX6_comesTo_2, wX6_comesTo_3, wX6_comesTo_4, wX6_comesTo_5, wX6_comesTo_7, uX6_comesTo_7, wX6_comesTo_9, wX6_comesTo_11, wX6_comesTo_14, wX6_comesTo_15, wX6_comesTo_17, uX6_comesTo_17, wX6_comesTo_19, wX6_comesTo_20, wX6_comesTo_23, wX6_comesTo_24, wX6_comesTo_25, wX6_comesTo_28, wX6_comesTo_29, wX6_comesTo_30, wX6_comesTo_32, wX6_comesTo_35, wX6_comesTo_38, wX6_comesTo_39, wX6_comesTo_42, wX6_comesTo_44, wX6_comesTo_46, wX6_comesTo_47, wX6_comesTo_48, wX6_comesTo_51, wX6_comesTo_52, wX6_comesTo_53, wX6_comesTo_54, wX6_comesTo_57, wX6_comesTo_60, wX6_comesTo_63, wX6_comesTo_66, wX6_comesTo_67, wX6_comesTo_68, wX6_comesTo_71, amSI_1, amSI_2, amSI_3, amSI_s, amU_at, amIsR_ref, amIsR_null, amIsR_rf, amRf_some, amRf_none, amClr_int, amClr_ref, amClr_null, amClr_long, amClr_ra, amClr_rf, amFit_int, amFit_oref, amFit_aref, amFit_onull, amFit_anull, amOptSome, amOptNone, List.cons_append, List.nil_append, true_and, and_true, true_implies, not_true_eq_false, not_false_eq_true, false_implies, and_self, Nat.add_zero, Nat.zero_add, ne_eq, Prod.mk.injEq, amC01_0, amC01_1, amC01_nb, amNb0, amNb1, amTcpI_d, Nat.reduceLeDiff, Nat.reduceAdd, Nat.reduceSub, Nat.reduceEqDiff, Nat.le_refl, amN0le, hR.s, hR.r, amLeI, amLtI, amEqI, amLe0, amGt0, amEq0, amNotPosI, amGe0, amVI, amCl_nI, amAdd, amSub, amMul, hn, q2, ap, tX6_has_d, nx_hasI, nx_or]
          refine ⟨fun z => ?_, fun z => ?_⟩
          · rw [bhStep, if_neg z] at nx
            rw [Nat.or_zero]
            exact nx
          · rw [bhStep, if_pos (Classical.not_not.mp z)] at nx
            exact nx
      have nx := inner S.ord.length 0 (by omega)
      refine goX6_comesTo hF 60 ?_
      simp (disch := omega) only [wX6_comesTo_0, uX6_comesTo_0, wX6_comesTo_1, wX6_comesTo_2, wX6_comesTo_3, wX6_comesTo_4, wX6_comesTo_5, wX6_comesTo_7, uX6_comesTo_7, wX6_comesTo_9, wX6_comesTo_11, wX6_comesTo_14, wX6_comesTo_15, wX6_comesTo_17, uX6_comesTo_17, wX6_comesTo_19, wX6_comesTo_20, wX6_comesTo_23, wX6_comesTo_24, wX6_comesTo_25, wX6_comesTo_28, wX6_comesTo_29, wX6_comesTo_30, wX6_comesTo_32, wX6_comesTo_35, wX6_comesTo_38, wX6_comesTo_39, wX6_comesTo_42, wX6_comesTo_44, wX6_comesTo_46, wX6_comesTo_47, wX6_comesTo_48, wX6_comesTo_51, wX6_comesTo_52, wX6_comesTo_53, wX6_comesTo_54, wX6_comesTo_57, wX6_comesTo_60, wX6_comesTo_63, wX6_comesTo_66, wX6_comesTo_67, wX6_comesTo_68, wX6_comesTo_71, amSI_1, amSI_2, amSI_3, amSI_s, amU_at, amIsR_ref, amIsR_null, amIsR_rf, amRf_some, amRf_none, amClr_int, amClr_ref, amClr_null, amClr_long, amClr_ra, amClr_rf, amFit_int, amFit_oref, amFit_aref, amFit_onull, amFit_anull, amOptSome, amOptNone, List.cons_append, List.nil_append, true_and, and_true, true_implies, not_true_eq_false, not_false_eq_true, false_implies, and_self, Nat.add_zero, Nat.zero_add, ne_eq, Prod.mk.injEq, amC01_0, amC01_1, amC01_nb, amNb0, amNb1, amTcpI_d, Nat.reduceLeDiff, Nat.reduceAdd, Nat.reduceSub, Nat.reduceEqDiff, Nat.le_refl, amN0le, hR.s, hR.r, amLeI, amLtI, amEqI, amLe0, amGt0, amEq0, amNotPosI, amGe0, amVI, amCl_nI, amAdd, amSub, amMul, q]
      exact nx
  have nx := outer 7 0 (by omega) (.retAddr 0)
  refine goX6_comesTo hF 60 ?_
  simp (disch := omega) only [wX6_comesTo_0, uX6_comesTo_0, wX6_comesTo_1, wX6_comesTo_2, wX6_comesTo_3, wX6_comesTo_4, wX6_comesTo_5, wX6_comesTo_7, uX6_comesTo_7, wX6_comesTo_9, wX6_comesTo_11, wX6_comesTo_14, wX6_comesTo_15, wX6_comesTo_17, uX6_comesTo_17, wX6_comesTo_19, wX6_comesTo_20, wX6_comesTo_23, wX6_comesTo_24, wX6_comesTo_25, wX6_comesTo_28, wX6_comesTo_29, wX6_comesTo_30, wX6_comesTo_32, wX6_comesTo_35, wX6_comesTo_38, wX6_comesTo_39, wX6_comesTo_42, wX6_comesTo_44, wX6_comesTo_46, wX6_comesTo_47, wX6_comesTo_48, wX6_comesTo_51, wX6_comesTo_52, wX6_comesTo_53, wX6_comesTo_54, wX6_comesTo_57, wX6_comesTo_60, wX6_comesTo_63, wX6_comesTo_66, wX6_comesTo_67, wX6_comesTo_68, wX6_comesTo_71, amSI_1, amSI_2, amSI_3, amSI_s, amU_at, amIsR_ref, amIsR_null, amIsR_rf, amRf_some, amRf_none, amClr_int, amClr_ref, amClr_null, amClr_long, amClr_ra, amClr_rf, amFit_int, amFit_oref, amFit_aref, amFit_onull, amFit_anull, amOptSome, amOptNone, List.cons_append, List.nil_append, true_and, and_true, true_implies, not_true_eq_false, not_false_eq_true, false_implies, and_self, Nat.add_zero, Nat.zero_add, ne_eq, Prod.mk.injEq, amC01_0, amC01_1, amC01_nb, amNb0, amNb1, amTcpI_d, Nat.reduceLeDiff, Nat.reduceAdd, Nat.reduceSub, Nat.reduceEqDiff, Nat.le_refl, amN0le, hR.s, hR.r, nx_p2]
  exact nx
theorem tX6_comesTo_d {t : Nat} {a0 b0 : Int32} {h : amH} {K : Option Value → amH → Prop} : tX6_comesTo [.ref t, .int a0, .int b0] h K = ∃ (S : HS) (a b : Nat), t = (124 : Nat) ∧ a0 = nI a ∧ b0 = nI b ∧ a < S.ord.length ∧ b < S.ord.length ∧ mdSys h S ∧ K (some (.int (amC01 ((bhN S.ahead 7 (2 ^ a)).testBit b = true)))) h := rfl
def putR (S : HS) (a b : Int32) : HS × Int32 := if ¬ ((a.toNatClampNeg < S.ord.length ∧ a = nI a.toNatClampNeg) ∧ (b.toNatClampNeg < S.ord.length ∧ b = nI b.toNatClampNeg) ∧ a ≠ b) then (S, -1) else if (S.ahead.getD a.toNatClampNeg 0).testBit b.toNatClampNeg = false ∧ S.mayBe a.toNatClampNeg b.toNatClampNeg = false then (S, -2) else (S.flip a.toNatClampNeg b.toNatClampNeg, if (S.ahead.getD a.toNatClampNeg 0).testBit b.toNatClampNeg = true then nI 0 else nI 1)
def tX6_puts : amT := fun as h K => match as with
  | [.ref t, .int a0, .int b0] => ∃ S : HS, t = (124 : Nat) ∧ mdSys h S ∧ ∀ m', RwIs m' 125 0 (putR S a0 b0).1 → maFr h.2.1 m' → K (some (.int (putR S a0 b0).2)) (amSI h m')
  | _ => False
/-! ReadingStagesModel.puts(II)I -/
def kX6_puts : Nat → Bool := fun pc => false
def rX6_puts : List (Nat × amS) := [(2, 2, 0, 0, (amRecv 6 tX6_isBook)), (10, 2, 0, 0, (amRecv 6 tX6_isBook)), (24, 1, 0, 0, amTget 6 0), (33, 2, 0, 0, tX6_has), (44, 3, 0, 0, (amRecv 6 tX6_comesTo)), (54, 1, 0, 0, amTget 6 0)]
def eX6_puts (ret : Option Value → amH → Nat → Nat → Prop) (F : amX) : Nat → amX := amWp cX6_puts kX6_puts (amLk rX6_puts) (some .int) 0 0 ret F
def sX6_puts (ret : Option Value → amH → Nat → Nat → Prop) (F : amX) : Nat → amX := amWs cX6_puts kX6_puts (amLk rX6_puts) (some .int) 0 0 ret F
theorem wX6_puts_0 {ret F n h} {v0 v1 v2 v3 st} : eX6_puts ret F (n + 1) 0 [v0, v1, v2, v3] (st) h 0 0 = (amIsR v0 ∧ eX6_puts ret F n 1 [v0, v1, v2, v3] (v0 :: st) h 0 0) := (amWp_dec rfl dX6_puts_0 rfl).trans rfl
theorem uX6_puts_0 {ret F n h} {v0 v1 v2 v3 st} : sX6_puts ret F n 0 [v0, v1, v2, v3] (st) h 0 0 = (amIsR v0 ∧ eX6_puts ret F n 1 [v0, v1, v2, v3] (v0 :: st) h 0 0) := (amWs_dec dX6_puts_0 rfl).trans rfl
theorem wX6_puts_1 {ret F n h} {v0 v2 v3 st x} : eX6_puts ret F (n + 1) 1 [v0, .int x, v2, v3] (st) h 0 0 = (eX6_puts ret F n 2 [v0, .int x, v2, v3] (.int x :: st) h 0 0) := (amWp_dec rfl dX6_puts_1 rfl).trans rfl
theorem wX6_puts_2 {ret F n h} {v0 v1 v2 v3 x1 x0} : eX6_puts ret F (n + 1) 2 [v0, v1, v2, v3] (.int x1 :: .ref x0 :: []) h 0 0 = (h.1 x0 = (0, 6) ∧ tX6_isBook [.ref x0, .int x1] h (fun v h => eX6_puts ret F n 5 [v0, v1, v2, v3] (v.toList ++ ([])) h 0 0)) := (amWp_dec rfl dX6_puts_2 rfl).trans (amS4 (Nat.le_of_ble_eq_true rfl) (Nat.le_of_ble_eq_true rfl) (Nat.le_of_ble_eq_true rfl) (Nat.le_of_ble_eq_true rfl))
theorem wX6_puts_5 {ret F n h} {v0 v1 v2 v3 st x} : eX6_puts ret F (n + 1) 5 [v0, v1, v2, v3] (.int x :: st) h 0 0 = ((x = 0 → eX6_puts ret F n 21 [v0, v1, v2, v3] (st) h 0 0) ∧ (¬ x = 0 → eX6_puts ret F n 8 [v0, v1, v2, v3] (st) h 0 0)) := (amWp_dec rfl dX6_puts_5 rfl).trans rfl
theorem wX6_puts_8 {ret F n h} {v0 v1 v2 v3 st} : eX6_puts ret F (n + 1) 8 [v0, v1, v2, v3] (st) h 0 0 = (amIsR v0 ∧ eX6_puts ret F n 9 [v0, v1, v2, v3] (v0 :: st) h 0 0) := (amWp_dec rfl dX6_puts_8 rfl).trans rfl
theorem wX6_puts_9 {ret F n h} {v0 v1 v3 st x} : eX6_puts ret F (n + 1) 9 [v0, v1, .int x, v3] (st) h 0 0 = (eX6_puts ret F n 10 [v0, v1, .int x, v3] (.int x :: st) h 0 0) := (amWp_dec rfl dX6_puts_9 rfl).trans rfl
theorem wX6_puts_10 {ret F n h} {v0 v1 v2 v3 x1 x0} : eX6_puts ret F (n + 1) 10 [v0, v1, v2, v3] (.int x1 :: .ref x0 :: []) h 0 0 = (h.1 x0 = (0, 6) ∧ tX6_isBook [.ref x0, .int x1] h (fun v h => eX6_puts ret F n 13 [v0, v1, v2, v3] (v.toList ++ ([])) h 0 0)) := (amWp_dec rfl dX6_puts_10 rfl).trans (amS4 (Nat.le_of_ble_eq_true rfl) (Nat.le_of_ble_eq_true rfl) (Nat.le_of_ble_eq_true rfl) (Nat.le_of_ble_eq_true rfl))
theorem wX6_puts_13 {ret F n h} {v0 v1 v2 v3 st x} : eX6_puts ret F (n + 1) 13 [v0, v1, v2, v3] (.int x :: st) h 0 0 = ((x = 0 → eX6_puts ret F n 21 [v0, v1, v2, v3] (st) h 0 0) ∧ (¬ x = 0 → eX6_puts ret F n 16 [v0, v1, v2, v3] (st) h 0 0)) := (amWp_dec rfl dX6_puts_13 rfl).trans rfl
theorem wX6_puts_16 {ret F n h} {v0 v2 v3 st x} : eX6_puts ret F (n + 1) 16 [v0, .int x, v2, v3] (st) h 0 0 = (eX6_puts ret F n 17 [v0, .int x, v2, v3] (.int x :: st) h 0 0) := (amWp_dec rfl dX6_puts_16 rfl).trans rfl
theorem wX6_puts_17 {ret F n h} {v0 v1 v3 st x} : eX6_puts ret F (n + 1) 17 [v0, v1, .int x, v3] (st) h 0 0 = (eX6_puts ret F n 18 [v0, v1, .int x, v3] (.int x :: st) h 0 0) := (amWp_dec rfl dX6_puts_17 rfl).trans rfl
theorem wX6_puts_18 {ret F n h} {v0 v1 v2 v3 st y x} : eX6_puts ret F (n + 1) 18 [v0, v1, v2, v3] (.int y :: .int x :: st) h 0 0 = ((¬ x = y → eX6_puts ret F n 23 [v0, v1, v2, v3] (st) h 0 0) ∧ (x = y → eX6_puts ret F n 21 [v0, v1, v2, v3] (st) h 0 0)) := (amWp_dec rfl dX6_puts_18 rfl).trans rfl
theorem wX6_puts_21 {ret F n h} {v0 v1 v2 v3 st} : eX6_puts ret F (n + 1) 21 [v0, v1, v2, v3] (st) h 0 0 = (eX6_puts ret F n 22 [v0, v1, v2, v3] (.int (-1) :: st) h 0 0) := (amWp_dec rfl dX6_puts_21 rfl).trans rfl
theorem wX6_puts_22 {ret F n h} {v0 v1 v2 v3 x} : eX6_puts ret F (n + 1) 22 [v0, v1, v2, v3] ([.int x]) h 0 0 = (ret (some (.int x)) h 0 0) := (amWp_dec rfl dX6_puts_22 rfl).trans (amTrue ⟨_, rfl, rfl⟩)
theorem wX6_puts_23 {ret F n h} {v0 v1 v2 v3 st} : eX6_puts ret F (n + 1) 23 [v0, v1, v2, v3] (st) h 0 0 = (amIsR v0 ∧ eX6_puts ret F n 24 [v0, v1, v2, v3] (v0 :: st) h 0 0) := (amWp_dec rfl dX6_puts_23 rfl).trans rfl
theorem wX6_puts_24 {ret F n h} {v0 v1 v2 v3 a} : eX6_puts ret F (n + 1) 24 [v0, v1, v2, v3] (.ref a :: []) h 0 0 = (h.1 a = (0, 6) ∧ eX6_puts ret F n 27 [v0, v1, v2, v3] (va_rf (h.2.2.2.1 a 0) :: []) h 0 0) := (amWp_dec rfl dX6_puts_24 rfl).trans (amS4 (Nat.le_of_ble_eq_true rfl) (Nat.le_of_ble_eq_true rfl) (Nat.le_of_ble_eq_true rfl) (Nat.le_of_ble_eq_true rfl))
theorem wX6_puts_27 {ret F n h} {v0 v1 v2 v3 st} : eX6_puts ret F (n + 1) 27 [v0, v1, v2, v3] (st) h 0 0 = (eX6_puts ret F n 29 [v0, v1, v2, v3] (.int (nI 20) :: st) h 0 0) := (amWp_dec rfl dX6_puts_27 rfl).trans rfl
theorem wX6_puts_29 {ret F n h} {v0 v2 v3 st x} : eX6_puts ret F (n + 1) 29 [v0, .int x, v2, v3] (st) h 0 0 = (eX6_puts ret F n 30 [v0, .int x, v2, v3] (.int x :: st) h 0 0) := (amWp_dec rfl dX6_puts_29 rfl).trans rfl
theorem wX6_puts_30 {ret F n h} {v0 v1 v2 v3 st y x} : eX6_puts ret F (n + 1) 30 [v0, v1, v2, v3] (.int y :: .int x :: st) h 0 0 = (eX6_puts ret F n 31 [v0, v1, v2, v3] (.int (x + y) :: st) h 0 0) := (amWp_dec rfl dX6_puts_30 rfl).trans rfl
theorem wX6_puts_31 {ret F n h} {v0 v1 v2 v3 st x a} : eX6_puts ret F (n + 1) 31 [v0, v1, v2, v3] (.int x :: .ref a :: st) h 0 0 = ((h.1 a).1 = 1 ∧ vp_in x (h.1 a).2 ∧ eX6_puts ret F n 32 [v0, v1, v2, v3] (.int (h.2.1 a x.toNatClampNeg) :: st) h 0 0) := (amWp_dec rfl dX6_puts_31 rfl).trans rfl
theorem wX6_puts_32 {ret F n h} {v0 v1 v3 st x} : eX6_puts ret F (n + 1) 32 [v0, v1, .int x, v3] (st) h 0 0 = (eX6_puts ret F n 33 [v0, v1, .int x, v3] (.int x :: st) h 0 0) := (amWp_dec rfl dX6_puts_32 rfl).trans rfl
theorem wX6_puts_33 {ret F n h} {v0 v1 v2 v3 x1 x0} : eX6_puts ret F (n + 1) 33 [v0, v1, v2, v3] (.int x1 :: .int x0 :: []) h 0 0 = (tX6_has [.int x0, .int x1] h (fun v h => eX6_puts ret F n 36 [v0, v1, v2, v3] (v.toList ++ ([])) h 0 0)) := (amWp_dec rfl dX6_puts_33 rfl).trans (amS4 (Nat.le_of_ble_eq_true rfl) (Nat.le_of_ble_eq_true rfl) (Nat.le_of_ble_eq_true rfl) (Nat.le_of_ble_eq_true rfl))
theorem wX6_puts_36 {ret F n h} {v0 v1 v2 v3 st x} : eX6_puts ret F (n + 1) 36 [v0, v1, v2, v3] (.int x :: st) h 0 0 = (eX6_puts ret F n 37 [v0, v1, amClr v2, .int x] (st) h 0 0) := (amWp_dec rfl dX6_puts_36 rfl).trans (amTrue (Nat.le_of_ble_eq_true rfl))
theorem wX6_puts_37 {ret F n h} {v0 v1 v2 st x} : eX6_puts ret F (n + 1) 37 [v0, v1, v2, .int x] (st) h 0 0 = (eX6_puts ret F n 38 [v0, v1, v2, .int x] (.int x :: st) h 0 0) := (amWp_dec rfl dX6_puts_37 rfl).trans rfl
theorem wX6_puts_38 {ret F n h} {v0 v1 v2 v3 st x} : eX6_puts ret F (n + 1) 38 [v0, v1, v2, v3] (.int x :: st) h 0 0 = ((¬ x = 0 → eX6_puts ret F n 53 [v0, v1, v2, v3] (st) h 0 0) ∧ (x = 0 → eX6_puts ret F n 41 [v0, v1, v2, v3] (st) h 0 0)) := (amWp_dec rfl dX6_puts_38 rfl).trans rfl
theorem wX6_puts_41 {ret F n h} {v0 v1 v2 v3 st} : eX6_puts ret F (n + 1) 41 [v0, v1, v2, v3] (st) h 0 0 = (amIsR v0 ∧ eX6_puts ret F n 42 [v0, v1, v2, v3] (v0 :: st) h 0 0) := (amWp_dec rfl dX6_puts_41 rfl).trans rfl
theorem wX6_puts_42 {ret F n h} {v0 v1 v3 st x} : eX6_puts ret F (n + 1) 42 [v0, v1, .int x, v3] (st) h 0 0 = (eX6_puts ret F n 43 [v0, v1, .int x, v3] (.int x :: st) h 0 0) := (amWp_dec rfl dX6_puts_42 rfl).trans rfl
theorem wX6_puts_43 {ret F n h} {v0 v2 v3 st x} : eX6_puts ret F (n + 1) 43 [v0, .int x, v2, v3] (st) h 0 0 = (eX6_puts ret F n 44 [v0, .int x, v2, v3] (.int x :: st) h 0 0) := (amWp_dec rfl dX6_puts_43 rfl).trans rfl
theorem wX6_puts_44 {ret F n h} {v0 v1 v2 v3 x2 x1 x0} : eX6_puts ret F (n + 1) 44 [v0, v1, v2, v3] (.int x2 :: .int x1 :: .ref x0 :: []) h 0 0 = (h.1 x0 = (0, 6) ∧ tX6_comesTo [.ref x0, .int x1, .int x2] h (fun v h => eX6_puts ret F n 47 [v0, v1, v2, v3] (v.toList ++ ([])) h 0 0)) := (amWp_dec rfl dX6_puts_44 rfl).trans (amS4 (Nat.le_of_ble_eq_true rfl) (Nat.le_of_ble_eq_true rfl) (Nat.le_of_ble_eq_true rfl) (Nat.le_of_ble_eq_true rfl))
theorem wX6_puts_47 {ret F n h} {v0 v1 v2 v3 st x} : eX6_puts ret F (n + 1) 47 [v0, v1, v2, v3] (.int x :: st) h 0 0 = ((x = 0 → eX6_puts ret F n 53 [v0, v1, v2, v3] (st) h 0 0) ∧ (¬ x = 0 → eX6_puts ret F n 50 [v0, v1, v2, v3] (st) h 0 0)) := (amWp_dec rfl dX6_puts_47 rfl).trans rfl
theorem wX6_puts_50 {ret F n h} {v0 v1 v2 v3 st} : eX6_puts ret F (n + 1) 50 [v0, v1, v2, v3] (st) h 0 0 = (eX6_puts ret F n 52 [v0, v1, v2, v3] (.int (-2) :: st) h 0 0) := (amWp_dec rfl dX6_puts_50 rfl).trans rfl
theorem wX6_puts_52 {ret F n h} {v0 v1 v2 v3 x} : eX6_puts ret F (n + 1) 52 [v0, v1, v2, v3] ([.int x]) h 0 0 = (ret (some (.int x)) h 0 0) := (amWp_dec rfl dX6_puts_52 rfl).trans (amTrue ⟨_, rfl, rfl⟩)
theorem wX6_puts_53 {ret F n h} {v0 v1 v2 v3 st} : eX6_puts ret F (n + 1) 53 [v0, v1, v2, v3] (st) h 0 0 = (amIsR v0 ∧ eX6_puts ret F n 54 [v0, v1, v2, v3] (v0 :: st) h 0 0) := (amWp_dec rfl dX6_puts_53 rfl).trans rfl
theorem wX6_puts_54 {ret F n h} {v0 v1 v2 v3 a} : eX6_puts ret F (n + 1) 54 [v0, v1, v2, v3] (.ref a :: []) h 0 0 = (h.1 a = (0, 6) ∧ eX6_puts ret F n 57 [v0, v1, v2, v3] (va_rf (h.2.2.2.1 a 0) :: []) h 0 0) := (amWp_dec rfl dX6_puts_54 rfl).trans (amS4 (Nat.le_of_ble_eq_true rfl) (Nat.le_of_ble_eq_true rfl) (Nat.le_of_ble_eq_true rfl) (Nat.le_of_ble_eq_true rfl))
theorem wX6_puts_57 {ret F n h} {v0 v1 v2 v3 st} : eX6_puts ret F (n + 1) 57 [v0, v1, v2, v3] (st) h 0 0 = (eX6_puts ret F n 59 [v0, v1, v2, v3] (.int (nI 20) :: st) h 0 0) := (amWp_dec rfl dX6_puts_57 rfl).trans rfl
theorem wX6_puts_59 {ret F n h} {v0 v2 v3 st x} : eX6_puts ret F (n + 1) 59 [v0, .int x, v2, v3] (st) h 0 0 = (eX6_puts ret F n 60 [v0, .int x, v2, v3] (.int x :: st) h 0 0) := (amWp_dec rfl dX6_puts_59 rfl).trans rfl
theorem wX6_puts_60 {ret F n h} {v0 v1 v2 v3 st y x} : eX6_puts ret F (n + 1) 60 [v0, v1, v2, v3] (.int y :: .int x :: st) h 0 0 = (eX6_puts ret F n 61 [v0, v1, v2, v3] (.int (x + y) :: st) h 0 0) := (amWp_dec rfl dX6_puts_60 rfl).trans rfl
theorem wX6_puts_61 {ret F n h} {v0 v1 v2 v3 st x a} : eX6_puts ret F (n + 1) 61 [v0, v1, v2, v3] (.int x :: .ref a :: st) h 0 0 = (eX6_puts ret F n 62 [v0, v1, v2, v3] (.int x :: .ref a :: .int x :: .ref a :: st) h 0 0) := (amWp_dec rfl dX6_puts_61 rfl).trans (amS2 rfl rfl)
theorem wX6_puts_62 {ret F n h} {v0 v1 v2 v3 st x a} : eX6_puts ret F (n + 1) 62 [v0, v1, v2, v3] (.int x :: .ref a :: st) h 0 0 = ((h.1 a).1 = 1 ∧ vp_in x (h.1 a).2 ∧ eX6_puts ret F n 63 [v0, v1, v2, v3] (.int (h.2.1 a x.toNatClampNeg) :: st) h 0 0) := (amWp_dec rfl dX6_puts_62 rfl).trans rfl
theorem wX6_puts_63 {ret F n h} {v0 v1 v2 v3 st} : eX6_puts ret F (n + 1) 63 [v0, v1, v2, v3] (st) h 0 0 = (eX6_puts ret F n 64 [v0, v1, v2, v3] (.int (nI 1) :: st) h 0 0) := (amWp_dec rfl dX6_puts_63 rfl).trans rfl
theorem wX6_puts_64 {ret F n h} {v0 v1 v3 st x} : eX6_puts ret F (n + 1) 64 [v0, v1, .int x, v3] (st) h 0 0 = (eX6_puts ret F n 65 [v0, v1, .int x, v3] (.int x :: st) h 0 0) := (amWp_dec rfl dX6_puts_64 rfl).trans rfl
theorem wX6_puts_65 {ret F n h} {v0 v1 v2 v3 st y x} : eX6_puts ret F (n + 1) 65 [v0, v1, v2, v3] (.int y :: .int x :: st) h 0 0 = (eX6_puts ret F n 66 [v0, v1, v2, v3] (.int (x <<< (y &&& 31)) :: st) h 0 0) := (amWp_dec rfl dX6_puts_65 rfl).trans rfl
theorem wX6_puts_66 {ret F n h} {v0 v1 v2 v3 st y x} : eX6_puts ret F (n + 1) 66 [v0, v1, v2, v3] (.int y :: .int x :: st) h 0 0 = (eX6_puts ret F n 67 [v0, v1, v2, v3] (.int (x ^^^ y) :: st) h 0 0) := (amWp_dec rfl dX6_puts_66 rfl).trans rfl
theorem wX6_puts_67 {ret F n h} {v0 v1 v2 v3 st y x a} : eX6_puts ret F (n + 1) 67 [v0, v1, v2, v3] (.int y :: .int x :: .ref a :: st) h 0 0 = ((h.1 a).1 = 1 ∧ vp_in x (h.1 a).2 ∧ amN0 ≤ a ∧ eX6_puts ret F n 68 [v0, v1, v2, v3] (st) (amSI h (amU h.2.1 a x.toNatClampNeg y)) 0 0) := (amWp_dec rfl dX6_puts_67 rfl).trans rfl
theorem wX6_puts_68 {ret F n h} {v0 v1 v2 st x} : eX6_puts ret F (n + 1) 68 [v0, v1, v2, .int x] (st) h 0 0 = (eX6_puts ret F n 69 [v0, v1, v2, .int x] (.int x :: st) h 0 0) := (amWp_dec rfl dX6_puts_68 rfl).trans rfl
theorem wX6_puts_69 {ret F n h} {v0 v1 v2 v3 st x} : eX6_puts ret F (n + 1) 69 [v0, v1, v2, v3] (.int x :: st) h 0 0 = ((x = 0 → eX6_puts ret F n 76 [v0, v1, v2, v3] (st) h 0 0) ∧ (¬ x = 0 → eX6_puts ret F n 72 [v0, v1, v2, v3] (st) h 0 0)) := (amWp_dec rfl dX6_puts_69 rfl).trans rfl
theorem wX6_puts_72 {ret F n h} {v0 v1 v2 v3 st} : eX6_puts ret F (n + 1) 72 [v0, v1, v2, v3] (st) h 0 0 = (eX6_puts ret F n 73 [v0, v1, v2, v3] (.int (nI 0) :: st) h 0 0) := (amWp_dec rfl dX6_puts_72 rfl).trans rfl
theorem wX6_puts_73 {ret F n h} {v0 v1 v2 v3 st} : eX6_puts ret F (n + 1) 73 [v0, v1, v2, v3] (st) h 0 0 = (eX6_puts ret F n 77 [v0, v1, v2, v3] (st) h 0 0) := (amWp_dec rfl dX6_puts_73 rfl).trans rfl
theorem wX6_puts_76 {ret F n h} {v0 v1 v2 v3 st} : eX6_puts ret F (n + 1) 76 [v0, v1, v2, v3] (st) h 0 0 = (eX6_puts ret F n 77 [v0, v1, v2, v3] (.int (nI 1) :: st) h 0 0) := (amWp_dec rfl dX6_puts_76 rfl).trans rfl
theorem wX6_puts_77 {ret F n h} {v0 v1 v2 v3 x} : eX6_puts ret F (n + 1) 77 [v0, v1, v2, v3] ([.int x]) h 0 0 = (ret (some (.int x)) h 0 0) := (amWp_dec rfl dX6_puts_77 rfl).trans (amTrue ⟨_, rfl, rfl⟩)
theorem evX6_puts (l : Launch) (G : amG) : ∀ pc S i sz, amLk rX6_puts pc = some S → decode cX6_puts pc = .ok (i, sz) → amSiteP pc G l yX6_puts.cls yX6_puts.name yX6_puts.desc (amRm 3 0 0) i sz S.1 S.2.1 S.2.2.1 S.2.2.2 := amLk_ok (by
  refine List.forall_mem_cons.mpr ⟨⟨_, _, dX6_puts_2, amSite.P (amSiteV (C := RX6) (metX6_isBook l G) rfl (by decide) (by decide) (lw_V q1423 q1425 qs46 q94 q1426) ⟨_, rfl, rfl⟩ ⟨rfl, by decide +kernel, by decide +kernel, by decide +kernel⟩)⟩, ?_⟩
  refine List.forall_mem_cons.mpr ⟨⟨_, _, dX6_puts_10, amSite.P (amSiteV (C := RX6) (metX6_isBook l G) rfl (by decide) (by decide) (lw_V q1423 q1425 qs46 q94 q1426) ⟨_, rfl, rfl⟩ ⟨rfl, by decide +kernel, by decide +kernel, by decide +kernel⟩)⟩, ?_⟩
  refine List.forall_mem_cons.mpr ⟨⟨_, _, dX6_puts_24, amSite.P (amSiteGet ⟨_, rfl, by decide, Or.inl q1295⟩)⟩, ?_⟩
  refine List.forall_mem_cons.mpr ⟨⟨_, _, dX6_puts_33, amSite.P (amSiteS (metX6_has l G) rfl (by decide) (by decide) (lw_S q1404 q1405 q94 q1406) ⟨by decide +kernel, by decide +kernel, by decide +kernel⟩)⟩, ?_⟩
  refine List.forall_mem_cons.mpr ⟨⟨_, _, dX6_puts_44, amSite.P (amSiteV (C := RX6) (metX6_comesTo l G) rfl (by decide) (by decide) (lw_V q1556 q1558 qs67 q94 q1559) ⟨_, rfl, rfl⟩ ⟨rfl, by decide +kernel, by decide +kernel, by decide +kernel⟩)⟩, ?_⟩
  refine List.forall_mem_cons.mpr ⟨⟨_, _, dX6_puts_54, amSite.P (amSiteGet ⟨_, rfl, by decide, Or.inl q1295⟩)⟩, ?_⟩
  exact fun _ h => absurd h List.not_mem_nil)
theorem goX6_puts {ret F} (hF : amCld cX6_puts kX6_puts (amLk rX6_puts) (some .int) 0 0 ret F) (n : Nat) {pc ls st h k z} (q : sX6_puts ret F n pc ls st h k z) : F pc ls st h k z := hF.1 n pc ls st h k z q
theorem metX6_puts (l : Launch) (G : amG) : amMet l G yX6_puts (ws_ yX6_puts cX6_puts 4 (some .int)) 3 0 0 tX6_puts := by
  refine amMet_of (cut := kX6_puts) (by decide +kernel) (evX6_puts l G) ?_
  intro as h K hT
  match as, hT with
  | [.ref t, .int a0, .int b0], ⟨S, e1, hA, hK⟩ =>
  refine ⟨Nat.le_of_ble_eq_true rfl, fun F hF => ?_⟩
  show F 0 [.ref t, .int a0, .int b0, .retAddr 0] [] h 0 0
  obtain ⟨t, rfl⟩ : ∃ i : Nat, i = t := ⟨_, rfl⟩
  subst e1
  have hR := hA.1
  have hS := hA.2.1
  have hO := hA.2.2
  have n7 := hS.n7
  have hn : h.2.1 125 0 = nI S.ord.length := hS.n
  have key0 : ∀ c, putR S a0 b0 = (S, c) → amRet 0 0 K (some (.int c)) h 0 0 := fun c e => by
    have key := hK h.2.1
    rw [e] at key
    exact amRet.of (by decide) (by decide) (key hS (maFr.rf _))
  by_cases ha : ∃ j, j < S.ord.length ∧ a0 = nI j
  · obtain ⟨a, ha, rfl⟩ := ha
    have eca : (nI a).toNatClampNeg = a := amCl_nI (by omega)
    have aT : (lN 0 ≤ (nI a).toInt64 ∧ (nI a).toInt64 ≤ (nI S.ord.length - nI 1).toInt64) := (isBk n7).mpr ⟨a, ha, rfl⟩
    by_cases hb : ∃ j, j < S.ord.length ∧ b0 = nI j
    · obtain ⟨b, hb, rfl⟩ := hb
      have ecb : (nI b).toNatClampNeg = b := amCl_nI (by omega)
      have bT : (lN 0 ≤ (nI b).toInt64 ∧ (nI b).toInt64 ≤ (nI S.ord.length - nI 1).toInt64) := (isBk n7).mpr ⟨b, hb, rfl⟩
      by_cases hab : a = b
      · have := key0 (-1) (by rw [putR, if_pos (fun z => z.2.2 (by rw [hab]))])
        have ab' : (a = b) = True := eq_true hab
        refine goX6_puts hF 80 ?_
        simp (disch := omega) only [wX6_puts_0, uX6_puts_0, wX6_puts_1, wX6_puts_2, wX6_puts_5, wX6_puts_8, wX6_puts_9, wX6_puts_10, wX6_puts_13, wX6_puts_16, wX6_puts_17, wX6_puts_18, wX6_puts_21, wX6_puts_22, wX6_puts_23, wX6_puts_24, wX6_puts_27, wX6_puts_29, wX6_puts_30, wX6_puts_31, wX6_puts_32, wX6_puts_33, wX6_puts_36, wX6_puts_37, wX6_puts_38, wX6_puts_41, wX6_puts_42, wX6_puts_43, wX6_puts_44, wX6_puts_47, wX6_puts_50, wX6_puts_52, wX6_puts_53, wX6_puts_54, wX6_puts_57, wX6_puts_59, wX6_puts_60, wX6_puts_61, wX6_puts_62, wX6_puts_63, wX6_puts_64, wX6_puts_65, wX6_puts_66, wX6_puts_67, wX6_puts_68, wX6_puts_69, wX6_puts_72, wX6_puts_73, wX6_puts_76, wX6_puts_77, amSI_1, amSI_2, amSI_3, amSI_s, amU_at, amIsR_ref, amIsR_null, amIsR_rf, amRf_some, amRf_none, amClr_int, amClr_ref, amClr_null, amClr_long, amClr_ra, amClr_rf, amFit_int, amFit_oref, amFit_aref, amFit_onull, amFit_anull, amOptSome, amOptNone, List.cons_append, List.nil_append, true_and, and_true, true_implies, not_true_eq_false, not_false_eq_true, false_implies, and_self, Nat.add_zero, Nat.zero_add, ne_eq, Prod.mk.injEq, amC01_0, amC01_1, amC01_nb, amNb0, amNb1, amTcpI_d, Nat.reduceLeDiff, Nat.reduceAdd, Nat.reduceSub, Nat.reduceEqDiff, Nat.le_refl, amN0le, hR.s, hR.r, hR, amVI, amCl_nI, amEqI, tX6_isBook_d, hn, aT, bT, ab']
        exact this
      · have c1 : ¬ ¬ (((nI a).toNatClampNeg < S.ord.length ∧ nI a = nI (nI a).toNatClampNeg) ∧ ((nI b).toNatClampNeg < S.ord.length ∧ nI b = nI (nI b).toNatClampNeg) ∧ nI a ≠ nI b) := fun z => z (by rw [eca, ecb]; exact ⟨⟨ha, rfl⟩, ⟨hb, rfl⟩, fun y => hab ((nI_eq (by omega) (by omega)).mp y)⟩)
        have ab' : (a = b) = False := eq_false hab
        have sa := hS.a0 a ha
        have al := getD_lt (by decide) hO.a128 a
        rw [putR, if_neg c1, eca, ecb] at hK
        have wr : ∀ m', (∀ i : Nat, i ≠ 125 → m' i = h.2.1 i) → (∀ q : Nat, q ≠ 20 + a → m' 125 q = h.2.1 125 q) → m' 125 (20 + a) = nI (S.ahead.getD a 0 ^^^ 2 ^ b) → RwIs m' 125 0 (S.flip a b) := by
          intro m' f1 f2 f3
          refine RwIs.mk hS.n7 hS.ls ?_ ?_ ?_ ?_ ?_ ?_ ?_ (fun k hk => ?_) (fun k hk => ?_) (fun k hk => ?_)
          · show (S.ahead.set a _).length = _
            rw [List.length_set]; exact hS.la
          · rw [f2 0 (by omega)]; exact hn
          · rw [f2 1 (by omega)]; exact hS.prior
          · rw [f2 2 (by omega)]; exact hS.span
          · rw [f2 3 (by omega)]; exact hS.bound
          · rw [f2 4 (by omega)]; exact hS.rule
          · rw [f2 5 (by omega)]; exact hS.draw
          · have hk : k < S.ord.length := hk
            rw [f2 _ (by omega)]; exact hS.o0 k hk
          · have hk : k < S.ord.length := hk
            rw [f2 _ (by omega)]; exact hS.s0 k hk
          · have hk : k < S.ord.length := hk
            show _ = nI ((S.ahead.set a _).getD k 0)
            rw [setl_getD (by rw [hS.la]; exact ha)]
            by_cases y : k = a
            · subst y
              rw [if_pos rfl]
              exact f3
            · rw [if_neg y, f2 _ (by omega)]
              exact hS.a0 k hk
        by_cases is : (S.ahead.getD a 0).testBit b = true
        · have is' : ((S.ahead.getD a 0).testBit b = true) = True := eq_true is
          rw [if_neg (fun z => by rw [is] at z; cases z.1), if_pos is] at hK
          have key := hK _ (wr (amU h.2.1 125 (20 + a) (nI (S.ahead.getD a 0 ^^^ 2 ^ b))) (fun i hi => by simp (disch := omega) only [amU_at, amU_ne, amU_nj, amU_neR, up_ne, up_at, amSI_2]) (fun q hq => by simp (disch := omega) only [amU_at, amU_ne, amU_nj, amU_neR, up_ne, up_at, amSI_2]) (by simp (disch := omega) only [amU_at, amU_ne, amU_nj, amU_neR, up_ne, up_at, amSI_2])) (maFr.r (fun i hi => by simp (disch := omega) only [amU_at, amU_ne, amU_nj, amU_neR, up_ne, up_at, amSI_2]))
          refine goX6_puts hF 80 ?_
          simp (disch := omega) only [wX6_puts_0, uX6_puts_0, wX6_puts_1, wX6_puts_2, wX6_puts_5, wX6_puts_8, wX6_puts_9, wX6_puts_10, wX6_puts_13, wX6_puts_16, wX6_puts_17, wX6_puts_18, wX6_puts_21, wX6_puts_22, wX6_puts_23, wX6_puts_24, wX6_puts_27, wX6_puts_29, wX6_puts_30, wX6_puts_31, wX6_puts_32, wX6_puts_33, wX6_puts_36, wX6_puts_37, wX6_puts_38, wX6_puts_41, wX6_puts_42, wX6_puts_43, wX6_puts_44, wX6_puts_47, wX6_puts_50, wX6_puts_52, wX6_puts_53, wX6_puts_54, wX6_puts_57, wX6_puts_59, wX6_puts_60, wX6_puts_61, wX6_puts_62, wX6_puts_63, wX6_puts_64, wX6_puts_65, wX6_puts_66, wX6_puts_67, wX6_puts_68, wX6_puts_69, wX6_puts_72, wX6_puts_73, wX6_puts_76, wX6_puts_77, amSI_1, amSI_2, amSI_3, amSI_s, amU_at, amIsR_ref, amIsR_null, amIsR_rf, amRf_some, amRf_none, amClr_int, amClr_ref, amClr_null, amClr_long, amClr_ra, amClr_rf, amFit_int, amFit_oref, amFit_aref, amFit_onull, amFit_anull, amOptSome, amOptNone, List.cons_append, List.nil_append, true_and, and_true, true_implies, not_true_eq_false, not_false_eq_true, false_implies, and_self, Nat.add_zero, Nat.zero_add, ne_eq, Prod.mk.injEq, amC01_0, amC01_1, amC01_nb, amNb0, amNb1, amTcpI_d, Nat.reduceLeDiff, Nat.reduceAdd, Nat.reduceSub, Nat.reduceEqDiff, Nat.le_refl, amN0le, hR.s, hR.r, hR, amVI, amCl_nI, amEqI, amAdd, tX6_isBook_d, hn, aT, bT, ab', sa, tX6_has_d, nx_hasI, is', nx_p2, nx_xor]
          exact amRet.of (by decide) (by decide) key
        · have is' : ((S.ahead.getD a 0).testBit b = true) = False := eq_false is
          have isf : (S.ahead.getD a 0).testBit b = false := by simpa using is
          have ce := comes_eq hO (b := b) (a := a) hb hab
          by_cases cm : (S.behind b).testBit a = true
          · have mb : S.mayBe a b = false := by unfold HS.mayBe; rw [cm]; simp
            have := key0 (-2) (by rw [putR, if_neg c1, eca, ecb, if_pos ⟨isf, mb⟩])
            refine goX6_puts hF 80 ?_
            simp (disch := omega) only [wX6_puts_0, uX6_puts_0, wX6_puts_1, wX6_puts_2, wX6_puts_5, wX6_puts_8, wX6_puts_9, wX6_puts_10, wX6_puts_13, wX6_puts_16, wX6_puts_17, wX6_puts_18, wX6_puts_21, wX6_puts_22, wX6_puts_23, wX6_puts_24, wX6_puts_27, wX6_puts_29, wX6_puts_30, wX6_puts_31, wX6_puts_32, wX6_puts_33, wX6_puts_36, wX6_puts_37, wX6_puts_38, wX6_puts_41, wX6_puts_42, wX6_puts_43, wX6_puts_44, wX6_puts_47, wX6_puts_50, wX6_puts_52, wX6_puts_53, wX6_puts_54, wX6_puts_57, wX6_puts_59, wX6_puts_60, wX6_puts_61, wX6_puts_62, wX6_puts_63, wX6_puts_64, wX6_puts_65, wX6_puts_66, wX6_puts_67, wX6_puts_68, wX6_puts_69, wX6_puts_72, wX6_puts_73, wX6_puts_76, wX6_puts_77, amSI_1, amSI_2, amSI_3, amSI_s, amU_at, amIsR_ref, amIsR_null, amIsR_rf, amRf_some, amRf_none, amClr_int, amClr_ref, amClr_null, amClr_long, amClr_ra, amClr_rf, amFit_int, amFit_oref, amFit_aref, amFit_onull, amFit_anull, amOptSome, amOptNone, List.cons_append, List.nil_append, true_and, and_true, true_implies, not_true_eq_false, not_false_eq_true, false_implies, and_self, Nat.add_zero, Nat.zero_add, ne_eq, Prod.mk.injEq, amC01_0, amC01_1, amC01_nb, amNb0, amNb1, amTcpI_d, Nat.reduceLeDiff, Nat.reduceAdd, Nat.reduceSub, Nat.reduceEqDiff, Nat.le_refl, amN0le, hR.s, hR.r, hR, amVI, amCl_nI, amEqI, amAdd, tX6_isBook_d, hn, aT, bT, ab', sa, tX6_has_d, nx_hasI, is', tX6_comesTo_d]
            refine ⟨S, b, a, rfl, rfl, hb, ha, hA, ?_⟩
            rw [ce]
            simp (disch := omega) only [wX6_puts_0, uX6_puts_0, wX6_puts_1, wX6_puts_2, wX6_puts_5, wX6_puts_8, wX6_puts_9, wX6_puts_10, wX6_puts_13, wX6_puts_16, wX6_puts_17, wX6_puts_18, wX6_puts_21, wX6_puts_22, wX6_puts_23, wX6_puts_24, wX6_puts_27, wX6_puts_29, wX6_puts_30, wX6_puts_31, wX6_puts_32, wX6_puts_33, wX6_puts_36, wX6_puts_37, wX6_puts_38, wX6_puts_41, wX6_puts_42, wX6_puts_43, wX6_puts_44, wX6_puts_47, wX6_puts_50, wX6_puts_52, wX6_puts_53, wX6_puts_54, wX6_puts_57, wX6_puts_59, wX6_puts_60, wX6_puts_61, wX6_puts_62, wX6_puts_63, wX6_puts_64, wX6_puts_65, wX6_puts_66, wX6_puts_67, wX6_puts_68, wX6_puts_69, wX6_puts_72, wX6_puts_73, wX6_puts_76, wX6_puts_77, amSI_1, amSI_2, amSI_3, amSI_s, amU_at, amIsR_ref, amIsR_null, amIsR_rf, amRf_some, amRf_none, amClr_int, amClr_ref, amClr_null, amClr_long, amClr_ra, amClr_rf, amFit_int, amFit_oref, amFit_aref, amFit_onull, amFit_anull, amOptSome, amOptNone, List.cons_append, List.nil_append, true_and, and_true, true_implies, not_true_eq_false, not_false_eq_true, false_implies, and_self, Nat.add_zero, Nat.zero_add, ne_eq, Prod.mk.injEq, amC01_0, amC01_1, amC01_nb, amNb0, amNb1, amTcpI_d, Nat.reduceLeDiff, Nat.reduceAdd, Nat.reduceSub, Nat.reduceEqDiff, Nat.le_refl, amN0le, hR.s, hR.r, cm]
            exact this
          · have mb : S.mayBe a b = true := by unfold HS.mayBe; simp [cm]; exact hab
            rw [if_neg (fun z => by rw [mb] at z; cases z.2), if_neg is] at hK
            have key := hK _ (wr (amU h.2.1 125 (20 + a) (nI (S.ahead.getD a 0 ^^^ 2 ^ b))) (fun i hi => by simp (disch := omega) only [amU_at, amU_ne, amU_nj, amU_neR, up_ne, up_at, amSI_2]) (fun q hq => by simp (disch := omega) only [amU_at, amU_ne, amU_nj, amU_neR, up_ne, up_at, amSI_2]) (by simp (disch := omega) only [amU_at, amU_ne, amU_nj, amU_neR, up_ne, up_at, amSI_2])) (maFr.r (fun i hi => by simp (disch := omega) only [amU_at, amU_ne, amU_nj, amU_neR, up_ne, up_at, amSI_2]))
            refine goX6_puts hF 80 ?_
            simp (disch := omega) only [wX6_puts_0, uX6_puts_0, wX6_puts_1, wX6_puts_2, wX6_puts_5, wX6_puts_8, wX6_puts_9, wX6_puts_10, wX6_puts_13, wX6_puts_16, wX6_puts_17, wX6_puts_18, wX6_puts_21, wX6_puts_22, wX6_puts_23, wX6_puts_24, wX6_puts_27, wX6_puts_29, wX6_puts_30, wX6_puts_31, wX6_puts_32, wX6_puts_33, wX6_puts_36, wX6_puts_37, wX6_puts_38, wX6_puts_41, wX6_puts_42, wX6_puts_43, wX6_puts_44, wX6_puts_47, wX6_puts_50, wX6_puts_52, wX6_puts_53, wX6_puts_54, wX6_puts_57, wX6_puts_59, wX6_puts_60, wX6_puts_61, wX6_puts_62, wX6_puts_63, wX6_puts_64, wX6_puts_65, wX6_puts_66, wX6_puts_67, wX6_puts_68, wX6_puts_69, wX6_puts_72, wX6_puts_73, wX6_puts_76, wX6_puts_77, amSI_1, amSI_2, amSI_3, amSI_s, amU_at, amIsR_ref, amIsR_null, amIsR_rf, amRf_some, amRf_none, amClr_int, amClr_ref, amClr_null, amClr_long, amClr_ra, amClr_rf, amFit_int, amFit_oref, amFit_aref, amFit_onull, amFit_anull, amOptSome, amOptNone, List.cons_append, List.nil_append, true_and, and_true, true_implies, not_true_eq_false, not_false_eq_true, false_implies, and_self, Nat.add_zero, Nat.zero_add, ne_eq, Prod.mk.injEq, amC01_0, amC01_1, amC01_nb, amNb0, amNb1, amTcpI_d, Nat.reduceLeDiff, Nat.reduceAdd, Nat.reduceSub, Nat.reduceEqDiff, Nat.le_refl, amN0le, hR.s, hR.r, hR, amVI, amCl_nI, amEqI, amAdd, tX6_isBook_d, hn, aT, bT, ab', sa, tX6_has_d, nx_hasI, is', tX6_comesTo_d]
            refine ⟨S, b, a, rfl, rfl, hb, ha, hA, ?_⟩
            rw [ce]
            simp (disch := omega) only [wX6_puts_0, uX6_puts_0, wX6_puts_1, wX6_puts_2, wX6_puts_5, wX6_puts_8, wX6_puts_9, wX6_puts_10, wX6_puts_13, wX6_puts_16, wX6_puts_17, wX6_puts_18, wX6_puts_21, wX6_puts_22, wX6_puts_23, wX6_puts_24, wX6_puts_27, wX6_puts_29, wX6_puts_30, wX6_puts_31, wX6_puts_32, wX6_puts_33, wX6_puts_36, wX6_puts_37, wX6_puts_38, wX6_puts_41, wX6_puts_42, wX6_puts_43, wX6_puts_44, wX6_puts_47, wX6_puts_50, wX6_puts_52, wX6_puts_53, wX6_puts_54, wX6_puts_57, wX6_puts_59, wX6_puts_60, wX6_puts_61, wX6_puts_62, wX6_puts_63, wX6_puts_64, wX6_puts_65, wX6_puts_66, wX6_puts_67, wX6_puts_68, wX6_puts_69, wX6_puts_72, wX6_puts_73, wX6_puts_76, wX6_puts_77, amSI_1, amSI_2, amSI_3, amSI_s, amU_at, amIsR_ref, amIsR_null, amIsR_rf, amRf_some, amRf_none, amClr_int, amClr_ref, amClr_null, amClr_long, amClr_ra, amClr_rf, amFit_int, amFit_oref, amFit_aref, amFit_onull, amFit_anull, amOptSome, amOptNone, List.cons_append, List.nil_append, true_and, and_true, true_implies, not_true_eq_false, not_false_eq_true, false_implies, and_self, Nat.add_zero, Nat.zero_add, ne_eq, Prod.mk.injEq, amC01_0, amC01_1, amC01_nb, amNb0, amNb1, amTcpI_d, Nat.reduceLeDiff, Nat.reduceAdd, Nat.reduceSub, Nat.reduceEqDiff, Nat.le_refl, amN0le, hR.s, hR.r, amVI, amCl_nI, amAdd, sa, nx_hasI, is', cm, nx_p2, nx_xor]
            exact ⟨fun _ => amRet.of (by decide) (by decide) key, fun z => absurd z (by decide)⟩
    · have bF : ¬ (lN 0 ≤ b0.toInt64 ∧ b0.toInt64 ≤ (nI S.ord.length - nI 1).toInt64) := fun z => hb ((isBk n7).mp z)
      have := key0 (-1) (by rw [putR, if_pos (fun z => hb ⟨_, z.2.1.1, z.2.1.2⟩)])
      refine goX6_puts hF 80 ?_
      simp (disch := omega) only [wX6_puts_0, uX6_puts_0, wX6_puts_1, wX6_puts_2, wX6_puts_5, wX6_puts_8, wX6_puts_9, wX6_puts_10, wX6_puts_13, wX6_puts_16, wX6_puts_17, wX6_puts_18, wX6_puts_21, wX6_puts_22, wX6_puts_23, wX6_puts_24, wX6_puts_27, wX6_puts_29, wX6_puts_30, wX6_puts_31, wX6_puts_32, wX6_puts_33, wX6_puts_36, wX6_puts_37, wX6_puts_38, wX6_puts_41, wX6_puts_42, wX6_puts_43, wX6_puts_44, wX6_puts_47, wX6_puts_50, wX6_puts_52, wX6_puts_53, wX6_puts_54, wX6_puts_57, wX6_puts_59, wX6_puts_60, wX6_puts_61, wX6_puts_62, wX6_puts_63, wX6_puts_64, wX6_puts_65, wX6_puts_66, wX6_puts_67, wX6_puts_68, wX6_puts_69, wX6_puts_72, wX6_puts_73, wX6_puts_76, wX6_puts_77, amSI_1, amSI_2, amSI_3, amSI_s, amU_at, amIsR_ref, amIsR_null, amIsR_rf, amRf_some, amRf_none, amClr_int, amClr_ref, amClr_null, amClr_long, amClr_ra, amClr_rf, amFit_int, amFit_oref, amFit_aref, amFit_onull, amFit_anull, amOptSome, amOptNone, List.cons_append, List.nil_append, true_and, and_true, true_implies, not_true_eq_false, not_false_eq_true, false_implies, and_self, Nat.add_zero, Nat.zero_add, ne_eq, Prod.mk.injEq, amC01_0, amC01_1, amC01_nb, amNb0, amNb1, amTcpI_d, Nat.reduceLeDiff, Nat.reduceAdd, Nat.reduceSub, Nat.reduceEqDiff, Nat.le_refl, amN0le, hR.s, hR.r, hR, amVI, amCl_nI, tX6_isBook_d, hn, aT, bF]
      exact this
  · have aF : ¬ (lN 0 ≤ a0.toInt64 ∧ a0.toInt64 ≤ (nI S.ord.length - nI 1).toInt64) := fun z => ha ((isBk n7).mp z)
    have := key0 (-1) (by rw [putR, if_pos (fun z => ha ⟨_, z.1.1, z.1.2⟩)])
    refine goX6_puts hF 80 ?_
    simp (disch := omega) only [wX6_puts_0, uX6_puts_0, wX6_puts_1, wX6_puts_2, wX6_puts_5, wX6_puts_8, wX6_puts_9, wX6_puts_10, wX6_puts_13, wX6_puts_16, wX6_puts_17, wX6_puts_18, wX6_puts_21, wX6_puts_22, wX6_puts_23, wX6_puts_24, wX6_puts_27, wX6_puts_29, wX6_puts_30, wX6_puts_31, wX6_puts_32, wX6_puts_33, wX6_puts_36, wX6_puts_37, wX6_puts_38, wX6_puts_41, wX6_puts_42, wX6_puts_43, wX6_puts_44, wX6_puts_47, wX6_puts_50, wX6_puts_52, wX6_puts_53, wX6_puts_54, wX6_puts_57, wX6_puts_59, wX6_puts_60, wX6_puts_61, wX6_puts_62, wX6_puts_63, wX6_puts_64, wX6_puts_65, wX6_puts_66, wX6_puts_67, wX6_puts_68, wX6_puts_69, wX6_puts_72, wX6_puts_73, wX6_puts_76, wX6_puts_77, amSI_1, amSI_2, amSI_3, amSI_s, amU_at, amIsR_ref, amIsR_null, amIsR_rf, amRf_some, amRf_none, amClr_int, amClr_ref, amClr_null, amClr_long, amClr_ra, amClr_rf, amFit_int, amFit_oref, amFit_aref, amFit_onull, amFit_anull, amOptSome, amOptNone, List.cons_append, List.nil_append, true_and, and_true, true_implies, not_true_eq_false, not_false_eq_true, false_implies, and_self, Nat.add_zero, Nat.zero_add, ne_eq, Prod.mk.injEq, amC01_0, amC01_1, amC01_nb, amNb0, amNb1, amTcpI_d, Nat.reduceLeDiff, Nat.reduceAdd, Nat.reduceSub, Nat.reduceEqDiff, Nat.le_refl, amN0le, hR.s, hR.r, hR, amVI, amCl_nI, tX6_isBook_d, hn, aF]
    exact this
theorem tX6_puts_d {t : Nat} {a0 b0 : Int32} {h : amH} {K : Option Value → amH → Prop} : tX6_puts [.ref t, .int a0, .int b0] h K = ∃ S : HS, t = (124 : Nat) ∧ mdSys h S ∧ ∀ m', RwIs m' 125 0 (putR S a0 b0).1 → maFr h.2.1 m' → K (some (.int (putR S a0 b0).2)) (amSI h m') := rfl
def shfR (S : HS) (p q : Int32) : HS × Int32 := if ¬ ((p.toNatClampNeg < S.ord.length ∧ p = nI p.toNatClampNeg) ∧ (q.toNatClampNeg < S.ord.length ∧ q = nI q.toNatClampNeg)) then (S, -1) else if p = q then (S, -2) else (S.shift p.toNatClampNeg q.toNatClampNeg, nI (S.ord.getD p.toNatClampNeg 0))
theorem nM1 (a : Nat) : nI (a + 1) + (-1) = nI a := by
  have : (-1 : Int32) = - nI 1 := by decide
  rw [this, ← Int32.sub_eq_add_neg, amSub (by omega), Nat.add_sub_cancel]
theorem shift_getD {l : List Nat} {p q : Nat} (hp : p < l.length) (hq : q < l.length) (r : Nat) : ((l.eraseIdx p).insertIdx q (l.getD p 0)).getD r 0 = if r = q then l.getD p 0 else if p ≤ r ∧ r < q then l.getD (r + 1) 0 else if q < r ∧ r ≤ p then l.getD (r - 1) 0 else l.getD r 0 := by
  rw [ins_getD (by rw [List.length_eraseIdx_of_lt hp]; omega), era_getD, era_getD]
  by_cases c0 : r = q
  · rw [if_pos c0, if_neg (by omega), if_pos c0]
  · rw [if_neg c0, if_neg c0]
    by_cases c1 : r < q
    · rw [if_pos c1]
      by_cases c2 : r < p
      · rw [if_pos c2, if_neg (by omega), if_neg (by omega)]
      · rw [if_neg c2, if_pos (by omega)]
    · rw [if_neg c1]
      by_cases c2 : r - 1 < p
      · rw [if_pos c2, if_neg (by omega), if_pos (by omega)]
      · rw [if_neg c2, if_neg (by omega), if_neg (by omega)]
        congr 1
        omega
theorem shift_len {l : List Nat} {p q x : Nat} (hp : p < l.length) (hq : q < l.length) : ((l.eraseIdx p).insertIdx q x).length = l.length := by
  rw [List.length_insertIdx_of_le_length (by rw [List.length_eraseIdx_of_lt hp]; omega), List.length_eraseIdx_of_lt hp]
  omega
def tX6_shifts : amT := fun as h K => match as with
  | [.ref t, .int p0, .int q0] => ∃ S : HS, t = (124 : Nat) ∧ mdSys h S ∧ ∀ m', RwIs m' 125 0 (shfR S p0 q0).1 → maFr h.2.1 m' → K (some (.int (shfR S p0 q0).2)) (amSI h m')
  | _ => False
/-! ReadingStagesModel.shifts(II)I -/
def kX6_shifts : Nat → Bool := fun pc => pc == 71
def rX6_shifts : List (Nat × amS) := [(4, 1, 0, 0, amTget 6 0), (12, 3, 0, 0, tX6_in), (22, 1, 0, 0, amTget 6 0), (30, 3, 0, 0, tX6_in), (47, 1, 0, 0, amTget 6 0), (78, 1, 0, 0, amTget 6 0), (87, 1, 0, 0, amTget 6 0), (111, 1, 0, 0, amTget 6 0)]
def eX6_shifts (ret : Option Value → amH → Nat → Nat → Prop) (F : amX) : Nat → amX := amWp cX6_shifts kX6_shifts (amLk rX6_shifts) (some .int) 0 0 ret F
def sX6_shifts (ret : Option Value → amH → Nat → Nat → Prop) (F : amX) : Nat → amX := amWs cX6_shifts kX6_shifts (amLk rX6_shifts) (some .int) 0 0 ret F
theorem wX6_shifts_0 {ret F n h} {v0 v2 v3 v4 v5 st x} : eX6_shifts ret F (n + 1) 0 [v0, .int x, v2, v3, v4, v5] (st) h 0 0 = (eX6_shifts ret F n 1 [v0, .int x, v2, v3, v4, v5] (.int x :: st) h 0 0) := (amWp_dec rfl dX6_shifts_0 rfl).trans rfl
theorem uX6_shifts_0 {ret F n h} {v0 v2 v3 v4 v5 st x} : sX6_shifts ret F n 0 [v0, .int x, v2, v3, v4, v5] (st) h 0 0 = (eX6_shifts ret F n 1 [v0, .int x, v2, v3, v4, v5] (.int x :: st) h 0 0) := (amWs_dec dX6_shifts_0 rfl).trans rfl
theorem wX6_shifts_1 {ret F n h} {v0 v1 v2 v3 v4 v5 st x} : eX6_shifts ret F (n + 1) 1 [v0, v1, v2, v3, v4, v5] (.int x :: st) h 0 0 = (eX6_shifts ret F n 2 [v0, v1, v2, v3, v4, v5] (.long x.toInt64 :: st) h 0 0) := (amWp_dec rfl dX6_shifts_1 rfl).trans rfl
theorem wX6_shifts_2 {ret F n h} {v0 v1 v2 v3 v4 v5 st} : eX6_shifts ret F (n + 1) 2 [v0, v1, v2, v3, v4, v5] (st) h 0 0 = (eX6_shifts ret F n 3 [v0, v1, v2, v3, v4, v5] (.long (lN 0) :: st) h 0 0) := (amWp_dec rfl dX6_shifts_2 rfl).trans rfl
theorem wX6_shifts_3 {ret F n h} {v0 v1 v2 v3 v4 v5 st} : eX6_shifts ret F (n + 1) 3 [v0, v1, v2, v3, v4, v5] (st) h 0 0 = (amIsR v0 ∧ eX6_shifts ret F n 4 [v0, v1, v2, v3, v4, v5] (v0 :: st) h 0 0) := (amWp_dec rfl dX6_shifts_3 rfl).trans rfl
theorem wX6_shifts_4 {ret F n h} {v0 v1 v2 v3 v4 v5 r0 r1 a} : eX6_shifts ret F (n + 1) 4 [v0, v1, v2, v3, v4, v5] (.ref a :: r0 :: r1 :: []) h 0 0 = (h.1 a = (0, 6) ∧ eX6_shifts ret F n 7 [v0, v1, v2, v3, v4, v5] (va_rf (h.2.2.2.1 a 0) :: r0 :: r1 :: []) h 0 0) := (amWp_dec rfl dX6_shifts_4 rfl).trans (amS4 (Nat.le_of_ble_eq_true rfl) (Nat.le_of_ble_eq_true rfl) (Nat.le_of_ble_eq_true rfl) (Nat.le_of_ble_eq_true rfl))
theorem wX6_shifts_7 {ret F n h} {v0 v1 v2 v3 v4 v5 st} : eX6_shifts ret F (n + 1) 7 [v0, v1, v2, v3, v4, v5] (st) h 0 0 = (eX6_shifts ret F n 8 [v0, v1, v2, v3, v4, v5] (.int (nI 0) :: st) h 0 0) := (amWp_dec rfl dX6_shifts_7 rfl).trans rfl
theorem wX6_shifts_8 {ret F n h} {v0 v1 v2 v3 v4 v5 st x a} : eX6_shifts ret F (n + 1) 8 [v0, v1, v2, v3, v4, v5] (.int x :: .ref a :: st) h 0 0 = ((h.1 a).1 = 1 ∧ vp_in x (h.1 a).2 ∧ eX6_shifts ret F n 9 [v0, v1, v2, v3, v4, v5] (.int (h.2.1 a x.toNatClampNeg) :: st) h 0 0) := (amWp_dec rfl dX6_shifts_8 rfl).trans rfl
theorem wX6_shifts_9 {ret F n h} {v0 v1 v2 v3 v4 v5 st} : eX6_shifts ret F (n + 1) 9 [v0, v1, v2, v3, v4, v5] (st) h 0 0 = (eX6_shifts ret F n 10 [v0, v1, v2, v3, v4, v5] (.int (nI 1) :: st) h 0 0) := (amWp_dec rfl dX6_shifts_9 rfl).trans rfl
theorem wX6_shifts_10 {ret F n h} {v0 v1 v2 v3 v4 v5 st y x} : eX6_shifts ret F (n + 1) 10 [v0, v1, v2, v3, v4, v5] (.int y :: .int x :: st) h 0 0 = (eX6_shifts ret F n 11 [v0, v1, v2, v3, v4, v5] (.int (x - y) :: st) h 0 0) := (amWp_dec rfl dX6_shifts_10 rfl).trans rfl
theorem wX6_shifts_11 {ret F n h} {v0 v1 v2 v3 v4 v5 st x} : eX6_shifts ret F (n + 1) 11 [v0, v1, v2, v3, v4, v5] (.int x :: st) h 0 0 = (eX6_shifts ret F n 12 [v0, v1, v2, v3, v4, v5] (.long x.toInt64 :: st) h 0 0) := (amWp_dec rfl dX6_shifts_11 rfl).trans rfl
theorem wX6_shifts_12 {ret F n h} {v0 v1 v2 v3 v4 v5 x2 x1 x0} : eX6_shifts ret F (n + 1) 12 [v0, v1, v2, v3, v4, v5] (.long x2 :: .long x1 :: .long x0 :: []) h 0 0 = (tX6_in [.long x0, .long x1, .long x2] h (fun v h => eX6_shifts ret F n 15 [v0, v1, v2, v3, v4, v5] (v.toList ++ ([])) h 0 0)) := (amWp_dec rfl dX6_shifts_12 rfl).trans (amS4 (Nat.le_of_ble_eq_true rfl) (Nat.le_of_ble_eq_true rfl) (Nat.le_of_ble_eq_true rfl) (Nat.le_of_ble_eq_true rfl))
theorem wX6_shifts_15 {ret F n h} {v0 v1 v2 v3 v4 v5 st x} : eX6_shifts ret F (n + 1) 15 [v0, v1, v2, v3, v4, v5] (.int x :: st) h 0 0 = ((x = 0 → eX6_shifts ret F n 36 [v0, v1, v2, v3, v4, v5] (st) h 0 0) ∧ (¬ x = 0 → eX6_shifts ret F n 18 [v0, v1, v2, v3, v4, v5] (st) h 0 0)) := (amWp_dec rfl dX6_shifts_15 rfl).trans rfl
theorem wX6_shifts_18 {ret F n h} {v0 v1 v3 v4 v5 st x} : eX6_shifts ret F (n + 1) 18 [v0, v1, .int x, v3, v4, v5] (st) h 0 0 = (eX6_shifts ret F n 19 [v0, v1, .int x, v3, v4, v5] (.int x :: st) h 0 0) := (amWp_dec rfl dX6_shifts_18 rfl).trans rfl
theorem wX6_shifts_19 {ret F n h} {v0 v1 v2 v3 v4 v5 st x} : eX6_shifts ret F (n + 1) 19 [v0, v1, v2, v3, v4, v5] (.int x :: st) h 0 0 = (eX6_shifts ret F n 20 [v0, v1, v2, v3, v4, v5] (.long x.toInt64 :: st) h 0 0) := (amWp_dec rfl dX6_shifts_19 rfl).trans rfl
theorem wX6_shifts_20 {ret F n h} {v0 v1 v2 v3 v4 v5 st} : eX6_shifts ret F (n + 1) 20 [v0, v1, v2, v3, v4, v5] (st) h 0 0 = (eX6_shifts ret F n 21 [v0, v1, v2, v3, v4, v5] (.long (lN 0) :: st) h 0 0) := (amWp_dec rfl dX6_shifts_20 rfl).trans rfl
theorem wX6_shifts_21 {ret F n h} {v0 v1 v2 v3 v4 v5 st} : eX6_shifts ret F (n + 1) 21 [v0, v1, v2, v3, v4, v5] (st) h 0 0 = (amIsR v0 ∧ eX6_shifts ret F n 22 [v0, v1, v2, v3, v4, v5] (v0 :: st) h 0 0) := (amWp_dec rfl dX6_shifts_21 rfl).trans rfl
theorem wX6_shifts_22 {ret F n h} {v0 v1 v2 v3 v4 v5 r0 r1 a} : eX6_shifts ret F (n + 1) 22 [v0, v1, v2, v3, v4, v5] (.ref a :: r0 :: r1 :: []) h 0 0 = (h.1 a = (0, 6) ∧ eX6_shifts ret F n 25 [v0, v1, v2, v3, v4, v5] (va_rf (h.2.2.2.1 a 0) :: r0 :: r1 :: []) h 0 0) := (amWp_dec rfl dX6_shifts_22 rfl).trans (amS4 (Nat.le_of_ble_eq_true rfl) (Nat.le_of_ble_eq_true rfl) (Nat.le_of_ble_eq_true rfl) (Nat.le_of_ble_eq_true rfl))
theorem wX6_shifts_25 {ret F n h} {v0 v1 v2 v3 v4 v5 st} : eX6_shifts ret F (n + 1) 25 [v0, v1, v2, v3, v4, v5] (st) h 0 0 = (eX6_shifts ret F n 26 [v0, v1, v2, v3, v4, v5] (.int (nI 0) :: st) h 0 0) := (amWp_dec rfl dX6_shifts_25 rfl).trans rfl
theorem wX6_shifts_26 {ret F n h} {v0 v1 v2 v3 v4 v5 st x a} : eX6_shifts ret F (n + 1) 26 [v0, v1, v2, v3, v4, v5] (.int x :: .ref a :: st) h 0 0 = ((h.1 a).1 = 1 ∧ vp_in x (h.1 a).2 ∧ eX6_shifts ret F n 27 [v0, v1, v2, v3, v4, v5] (.int (h.2.1 a x.toNatClampNeg) :: st) h 0 0) := (amWp_dec rfl dX6_shifts_26 rfl).trans rfl
theorem wX6_shifts_27 {ret F n h} {v0 v1 v2 v3 v4 v5 st} : eX6_shifts ret F (n + 1) 27 [v0, v1, v2, v3, v4, v5] (st) h 0 0 = (eX6_shifts ret F n 28 [v0, v1, v2, v3, v4, v5] (.int (nI 1) :: st) h 0 0) := (amWp_dec rfl dX6_shifts_27 rfl).trans rfl
theorem wX6_shifts_28 {ret F n h} {v0 v1 v2 v3 v4 v5 st y x} : eX6_shifts ret F (n + 1) 28 [v0, v1, v2, v3, v4, v5] (.int y :: .int x :: st) h 0 0 = (eX6_shifts ret F n 29 [v0, v1, v2, v3, v4, v5] (.int (x - y) :: st) h 0 0) := (amWp_dec rfl dX6_shifts_28 rfl).trans rfl
theorem wX6_shifts_29 {ret F n h} {v0 v1 v2 v3 v4 v5 st x} : eX6_shifts ret F (n + 1) 29 [v0, v1, v2, v3, v4, v5] (.int x :: st) h 0 0 = (eX6_shifts ret F n 30 [v0, v1, v2, v3, v4, v5] (.long x.toInt64 :: st) h 0 0) := (amWp_dec rfl dX6_shifts_29 rfl).trans rfl
theorem wX6_shifts_30 {ret F n h} {v0 v1 v2 v3 v4 v5 x2 x1 x0} : eX6_shifts ret F (n + 1) 30 [v0, v1, v2, v3, v4, v5] (.long x2 :: .long x1 :: .long x0 :: []) h 0 0 = (tX6_in [.long x0, .long x1, .long x2] h (fun v h => eX6_shifts ret F n 33 [v0, v1, v2, v3, v4, v5] (v.toList ++ ([])) h 0 0)) := (amWp_dec rfl dX6_shifts_30 rfl).trans (amS4 (Nat.le_of_ble_eq_true rfl) (Nat.le_of_ble_eq_true rfl) (Nat.le_of_ble_eq_true rfl) (Nat.le_of_ble_eq_true rfl))
theorem wX6_shifts_33 {ret F n h} {v0 v1 v2 v3 v4 v5 st x} : eX6_shifts ret F (n + 1) 33 [v0, v1, v2, v3, v4, v5] (.int x :: st) h 0 0 = ((¬ x = 0 → eX6_shifts ret F n 38 [v0, v1, v2, v3, v4, v5] (st) h 0 0) ∧ (x = 0 → eX6_shifts ret F n 36 [v0, v1, v2, v3, v4, v5] (st) h 0 0)) := (amWp_dec rfl dX6_shifts_33 rfl).trans rfl
theorem wX6_shifts_36 {ret F n h} {v0 v1 v2 v3 v4 v5 st} : eX6_shifts ret F (n + 1) 36 [v0, v1, v2, v3, v4, v5] (st) h 0 0 = (eX6_shifts ret F n 37 [v0, v1, v2, v3, v4, v5] (.int (-1) :: st) h 0 0) := (amWp_dec rfl dX6_shifts_36 rfl).trans rfl
theorem wX6_shifts_37 {ret F n h} {v0 v1 v2 v3 v4 v5 x} : eX6_shifts ret F (n + 1) 37 [v0, v1, v2, v3, v4, v5] ([.int x]) h 0 0 = (ret (some (.int x)) h 0 0) := (amWp_dec rfl dX6_shifts_37 rfl).trans (amTrue ⟨_, rfl, rfl⟩)
theorem wX6_shifts_38 {ret F n h} {v0 v2 v3 v4 v5 st x} : eX6_shifts ret F (n + 1) 38 [v0, .int x, v2, v3, v4, v5] (st) h 0 0 = (eX6_shifts ret F n 39 [v0, .int x, v2, v3, v4, v5] (.int x :: st) h 0 0) := (amWp_dec rfl dX6_shifts_38 rfl).trans rfl
theorem wX6_shifts_39 {ret F n h} {v0 v1 v3 v4 v5 st x} : eX6_shifts ret F (n + 1) 39 [v0, v1, .int x, v3, v4, v5] (st) h 0 0 = (eX6_shifts ret F n 40 [v0, v1, .int x, v3, v4, v5] (.int x :: st) h 0 0) := (amWp_dec rfl dX6_shifts_39 rfl).trans rfl
theorem wX6_shifts_40 {ret F n h} {v0 v1 v2 v3 v4 v5 st y x} : eX6_shifts ret F (n + 1) 40 [v0, v1, v2, v3, v4, v5] (.int y :: .int x :: st) h 0 0 = ((¬ x = y → eX6_shifts ret F n 46 [v0, v1, v2, v3, v4, v5] (st) h 0 0) ∧ (x = y → eX6_shifts ret F n 43 [v0, v1, v2, v3, v4, v5] (st) h 0 0)) := (amWp_dec rfl dX6_shifts_40 rfl).trans rfl
theorem wX6_shifts_43 {ret F n h} {v0 v1 v2 v3 v4 v5 st} : eX6_shifts ret F (n + 1) 43 [v0, v1, v2, v3, v4, v5] (st) h 0 0 = (eX6_shifts ret F n 45 [v0, v1, v2, v3, v4, v5] (.int (-2) :: st) h 0 0) := (amWp_dec rfl dX6_shifts_43 rfl).trans rfl
theorem wX6_shifts_45 {ret F n h} {v0 v1 v2 v3 v4 v5 x} : eX6_shifts ret F (n + 1) 45 [v0, v1, v2, v3, v4, v5] ([.int x]) h 0 0 = (ret (some (.int x)) h 0 0) := (amWp_dec rfl dX6_shifts_45 rfl).trans (amTrue ⟨_, rfl, rfl⟩)
theorem wX6_shifts_46 {ret F n h} {v0 v1 v2 v3 v4 v5 st} : eX6_shifts ret F (n + 1) 46 [v0, v1, v2, v3, v4, v5] (st) h 0 0 = (amIsR v0 ∧ eX6_shifts ret F n 47 [v0, v1, v2, v3, v4, v5] (v0 :: st) h 0 0) := (amWp_dec rfl dX6_shifts_46 rfl).trans rfl
theorem wX6_shifts_47 {ret F n h} {v0 v1 v2 v3 v4 v5 a} : eX6_shifts ret F (n + 1) 47 [v0, v1, v2, v3, v4, v5] (.ref a :: []) h 0 0 = (h.1 a = (0, 6) ∧ eX6_shifts ret F n 50 [v0, v1, v2, v3, v4, v5] (va_rf (h.2.2.2.1 a 0) :: []) h 0 0) := (amWp_dec rfl dX6_shifts_47 rfl).trans (amS4 (Nat.le_of_ble_eq_true rfl) (Nat.le_of_ble_eq_true rfl) (Nat.le_of_ble_eq_true rfl) (Nat.le_of_ble_eq_true rfl))
theorem wX6_shifts_50 {ret F n h} {v0 v1 v2 v3 v4 v5 st} : eX6_shifts ret F (n + 1) 50 [v0, v1, v2, v3, v4, v5] (st) h 0 0 = (eX6_shifts ret F n 52 [v0, v1, v2, v3, v4, v5] (.int (nI 6) :: st) h 0 0) := (amWp_dec rfl dX6_shifts_50 rfl).trans rfl
theorem wX6_shifts_52 {ret F n h} {v0 v2 v3 v4 v5 st x} : eX6_shifts ret F (n + 1) 52 [v0, .int x, v2, v3, v4, v5] (st) h 0 0 = (eX6_shifts ret F n 53 [v0, .int x, v2, v3, v4, v5] (.int x :: st) h 0 0) := (amWp_dec rfl dX6_shifts_52 rfl).trans rfl
theorem wX6_shifts_53 {ret F n h} {v0 v1 v2 v3 v4 v5 st y x} : eX6_shifts ret F (n + 1) 53 [v0, v1, v2, v3, v4, v5] (.int y :: .int x :: st) h 0 0 = (eX6_shifts ret F n 54 [v0, v1, v2, v3, v4, v5] (.int (x + y) :: st) h 0 0) := (amWp_dec rfl dX6_shifts_53 rfl).trans rfl
theorem wX6_shifts_54 {ret F n h} {v0 v1 v2 v3 v4 v5 st x a} : eX6_shifts ret F (n + 1) 54 [v0, v1, v2, v3, v4, v5] (.int x :: .ref a :: st) h 0 0 = ((h.1 a).1 = 1 ∧ vp_in x (h.1 a).2 ∧ eX6_shifts ret F n 55 [v0, v1, v2, v3, v4, v5] (.int (h.2.1 a x.toNatClampNeg) :: st) h 0 0) := (amWp_dec rfl dX6_shifts_54 rfl).trans rfl
theorem wX6_shifts_55 {ret F n h} {v0 v1 v2 v3 v4 v5 st x} : eX6_shifts ret F (n + 1) 55 [v0, v1, v2, v3, v4, v5] (.int x :: st) h 0 0 = (eX6_shifts ret F n 56 [v0, v1, amClr v2, .int x, v4, v5] (st) h 0 0) := (amWp_dec rfl dX6_shifts_55 rfl).trans (amTrue (Nat.le_of_ble_eq_true rfl))
theorem wX6_shifts_56 {ret F n h} {v0 v2 v3 v4 v5 st x} : eX6_shifts ret F (n + 1) 56 [v0, .int x, v2, v3, v4, v5] (st) h 0 0 = (eX6_shifts ret F n 57 [v0, .int x, v2, v3, v4, v5] (.int x :: st) h 0 0) := (amWp_dec rfl dX6_shifts_56 rfl).trans rfl
theorem wX6_shifts_57 {ret F n h} {v0 v1 v3 v4 v5 st x} : eX6_shifts ret F (n + 1) 57 [v0, v1, .int x, v3, v4, v5] (st) h 0 0 = (eX6_shifts ret F n 58 [v0, v1, .int x, v3, v4, v5] (.int x :: st) h 0 0) := (amWp_dec rfl dX6_shifts_57 rfl).trans rfl
theorem wX6_shifts_58 {ret F n h} {v0 v1 v2 v3 v4 v5 st y x} : eX6_shifts ret F (n + 1) 58 [v0, v1, v2, v3, v4, v5] (.int y :: .int x :: st) h 0 0 = ((y ≤ x → eX6_shifts ret F n 65 [v0, v1, v2, v3, v4, v5] (st) h 0 0) ∧ (¬ y ≤ x → eX6_shifts ret F n 61 [v0, v1, v2, v3, v4, v5] (st) h 0 0)) := (amWp_dec rfl dX6_shifts_58 rfl).trans rfl
theorem wX6_shifts_61 {ret F n h} {v0 v1 v2 v3 v4 v5 st} : eX6_shifts ret F (n + 1) 61 [v0, v1, v2, v3, v4, v5] (st) h 0 0 = (eX6_shifts ret F n 62 [v0, v1, v2, v3, v4, v5] (.int (nI 1) :: st) h 0 0) := (amWp_dec rfl dX6_shifts_61 rfl).trans rfl
theorem wX6_shifts_62 {ret F n h} {v0 v1 v2 v3 v4 v5 st} : eX6_shifts ret F (n + 1) 62 [v0, v1, v2, v3, v4, v5] (st) h 0 0 = (eX6_shifts ret F n 66 [v0, v1, v2, v3, v4, v5] (st) h 0 0) := (amWp_dec rfl dX6_shifts_62 rfl).trans rfl
theorem wX6_shifts_65 {ret F n h} {v0 v1 v2 v3 v4 v5 st} : eX6_shifts ret F (n + 1) 65 [v0, v1, v2, v3, v4, v5] (st) h 0 0 = (eX6_shifts ret F n 66 [v0, v1, v2, v3, v4, v5] (.int (-1) :: st) h 0 0) := (amWp_dec rfl dX6_shifts_65 rfl).trans rfl
theorem wX6_shifts_66 {ret F n h} {v0 v1 v2 v3 v4 v5 st x} : eX6_shifts ret F (n + 1) 66 [v0, v1, v2, v3, v4, v5] (.int x :: st) h 0 0 = (eX6_shifts ret F n 68 [v0, v1, v2, amClr v3, .int x, v5] (st) h 0 0) := (amWp_dec rfl dX6_shifts_66 rfl).trans (amTrue (Nat.le_of_ble_eq_true rfl))
theorem wX6_shifts_68 {ret F n h} {v0 v2 v3 v4 v5 st x} : eX6_shifts ret F (n + 1) 68 [v0, .int x, v2, v3, v4, v5] (st) h 0 0 = (eX6_shifts ret F n 69 [v0, .int x, v2, v3, v4, v5] (.int x :: st) h 0 0) := (amWp_dec rfl dX6_shifts_68 rfl).trans rfl
theorem wX6_shifts_69 {ret F n h} {v0 v1 v2 v3 v4 v5 st x} : eX6_shifts ret F (n + 1) 69 [v0, v1, v2, v3, v4, v5] (.int x :: st) h 0 0 = (eX6_shifts ret F n 71 [v0, v1, v2, v3, amClr v4, .int x] (st) h 0 0) := (amWp_dec rfl dX6_shifts_69 rfl).trans (amTrue (Nat.le_of_ble_eq_true rfl))
theorem wX6_shifts_71 {ret F n ls st h k z} : eX6_shifts ret F (n + 1) 71 ls st h k z = F 71 ls st h k z := amWp_cut rfl
theorem uX6_shifts_71 {ret F n h} {v0 v1 v2 v3 v4 st x} : sX6_shifts ret F n 71 [v0, v1, v2, v3, v4, .int x] (st) h 0 0 = (eX6_shifts ret F n 73 [v0, v1, v2, v3, v4, .int x] (.int x :: st) h 0 0) := (amWs_dec dX6_shifts_71 rfl).trans rfl
theorem wX6_shifts_73 {ret F n h} {v0 v1 v3 v4 v5 st x} : eX6_shifts ret F (n + 1) 73 [v0, v1, .int x, v3, v4, v5] (st) h 0 0 = (eX6_shifts ret F n 74 [v0, v1, .int x, v3, v4, v5] (.int x :: st) h 0 0) := (amWp_dec rfl dX6_shifts_73 rfl).trans rfl
theorem wX6_shifts_74 {ret F n h} {v0 v1 v2 v3 v4 v5 st y x} : eX6_shifts ret F (n + 1) 74 [v0, v1, v2, v3, v4, v5] (.int y :: .int x :: st) h 0 0 = ((x = y → eX6_shifts ret F n 110 [v0, v1, v2, v3, v4, v5] (st) h 0 0) ∧ (¬ x = y → eX6_shifts ret F n 77 [v0, v1, v2, v3, v4, v5] (st) h 0 0)) := (amWp_dec rfl dX6_shifts_74 rfl).trans rfl
theorem wX6_shifts_77 {ret F n h} {v0 v1 v2 v3 v4 v5 st} : eX6_shifts ret F (n + 1) 77 [v0, v1, v2, v3, v4, v5] (st) h 0 0 = (amIsR v0 ∧ eX6_shifts ret F n 78 [v0, v1, v2, v3, v4, v5] (v0 :: st) h 0 0) := (amWp_dec rfl dX6_shifts_77 rfl).trans rfl
theorem wX6_shifts_78 {ret F n h} {v0 v1 v2 v3 v4 v5 a} : eX6_shifts ret F (n + 1) 78 [v0, v1, v2, v3, v4, v5] (.ref a :: []) h 0 0 = (h.1 a = (0, 6) ∧ eX6_shifts ret F n 81 [v0, v1, v2, v3, v4, v5] (va_rf (h.2.2.2.1 a 0) :: []) h 0 0) := (amWp_dec rfl dX6_shifts_78 rfl).trans (amS4 (Nat.le_of_ble_eq_true rfl) (Nat.le_of_ble_eq_true rfl) (Nat.le_of_ble_eq_true rfl) (Nat.le_of_ble_eq_true rfl))
theorem wX6_shifts_81 {ret F n h} {v0 v1 v2 v3 v4 v5 st} : eX6_shifts ret F (n + 1) 81 [v0, v1, v2, v3, v4, v5] (st) h 0 0 = (eX6_shifts ret F n 83 [v0, v1, v2, v3, v4, v5] (.int (nI 6) :: st) h 0 0) := (amWp_dec rfl dX6_shifts_81 rfl).trans rfl
theorem wX6_shifts_83 {ret F n h} {v0 v1 v2 v3 v4 st x} : eX6_shifts ret F (n + 1) 83 [v0, v1, v2, v3, v4, .int x] (st) h 0 0 = (eX6_shifts ret F n 85 [v0, v1, v2, v3, v4, .int x] (.int x :: st) h 0 0) := (amWp_dec rfl dX6_shifts_83 rfl).trans rfl
theorem wX6_shifts_85 {ret F n h} {v0 v1 v2 v3 v4 v5 st y x} : eX6_shifts ret F (n + 1) 85 [v0, v1, v2, v3, v4, v5] (.int y :: .int x :: st) h 0 0 = (eX6_shifts ret F n 86 [v0, v1, v2, v3, v4, v5] (.int (x + y) :: st) h 0 0) := (amWp_dec rfl dX6_shifts_85 rfl).trans rfl
theorem wX6_shifts_86 {ret F n h} {v0 v1 v2 v3 v4 v5 st} : eX6_shifts ret F (n + 1) 86 [v0, v1, v2, v3, v4, v5] (st) h 0 0 = (amIsR v0 ∧ eX6_shifts ret F n 87 [v0, v1, v2, v3, v4, v5] (v0 :: st) h 0 0) := (amWp_dec rfl dX6_shifts_86 rfl).trans rfl
theorem wX6_shifts_87 {ret F n h} {v0 v1 v2 v3 v4 v5 r0 r1 a} : eX6_shifts ret F (n + 1) 87 [v0, v1, v2, v3, v4, v5] (.ref a :: r0 :: r1 :: []) h 0 0 = (h.1 a = (0, 6) ∧ eX6_shifts ret F n 90 [v0, v1, v2, v3, v4, v5] (va_rf (h.2.2.2.1 a 0) :: r0 :: r1 :: []) h 0 0) := (amWp_dec rfl dX6_shifts_87 rfl).trans (amS4 (Nat.le_of_ble_eq_true rfl) (Nat.le_of_ble_eq_true rfl) (Nat.le_of_ble_eq_true rfl) (Nat.le_of_ble_eq_true rfl))
theorem wX6_shifts_90 {ret F n h} {v0 v1 v2 v3 v4 v5 st} : eX6_shifts ret F (n + 1) 90 [v0, v1, v2, v3, v4, v5] (st) h 0 0 = (eX6_shifts ret F n 92 [v0, v1, v2, v3, v4, v5] (.int (nI 6) :: st) h 0 0) := (amWp_dec rfl dX6_shifts_90 rfl).trans rfl
theorem wX6_shifts_92 {ret F n h} {v0 v1 v2 v3 v4 st x} : eX6_shifts ret F (n + 1) 92 [v0, v1, v2, v3, v4, .int x] (st) h 0 0 = (eX6_shifts ret F n 94 [v0, v1, v2, v3, v4, .int x] (.int x :: st) h 0 0) := (amWp_dec rfl dX6_shifts_92 rfl).trans rfl
theorem wX6_shifts_94 {ret F n h} {v0 v1 v2 v3 v4 v5 st y x} : eX6_shifts ret F (n + 1) 94 [v0, v1, v2, v3, v4, v5] (.int y :: .int x :: st) h 0 0 = (eX6_shifts ret F n 95 [v0, v1, v2, v3, v4, v5] (.int (x + y) :: st) h 0 0) := (amWp_dec rfl dX6_shifts_94 rfl).trans rfl
theorem wX6_shifts_95 {ret F n h} {v0 v1 v2 v3 v5 st x} : eX6_shifts ret F (n + 1) 95 [v0, v1, v2, v3, .int x, v5] (st) h 0 0 = (eX6_shifts ret F n 97 [v0, v1, v2, v3, .int x, v5] (.int x :: st) h 0 0) := (amWp_dec rfl dX6_shifts_95 rfl).trans rfl
theorem wX6_shifts_97 {ret F n h} {v0 v1 v2 v3 v4 v5 st y x} : eX6_shifts ret F (n + 1) 97 [v0, v1, v2, v3, v4, v5] (.int y :: .int x :: st) h 0 0 = (eX6_shifts ret F n 98 [v0, v1, v2, v3, v4, v5] (.int (x + y) :: st) h 0 0) := (amWp_dec rfl dX6_shifts_97 rfl).trans rfl
theorem wX6_shifts_98 {ret F n h} {v0 v1 v2 v3 v4 v5 st x a} : eX6_shifts ret F (n + 1) 98 [v0, v1, v2, v3, v4, v5] (.int x :: .ref a :: st) h 0 0 = ((h.1 a).1 = 1 ∧ vp_in x (h.1 a).2 ∧ eX6_shifts ret F n 99 [v0, v1, v2, v3, v4, v5] (.int (h.2.1 a x.toNatClampNeg) :: st) h 0 0) := (amWp_dec rfl dX6_shifts_98 rfl).trans rfl
theorem wX6_shifts_99 {ret F n h} {v0 v1 v2 v3 v4 v5 st y x a} : eX6_shifts ret F (n + 1) 99 [v0, v1, v2, v3, v4, v5] (.int y :: .int x :: .ref a :: st) h 0 0 = ((h.1 a).1 = 1 ∧ vp_in x (h.1 a).2 ∧ amN0 ≤ a ∧ eX6_shifts ret F n 100 [v0, v1, v2, v3, v4, v5] (st) (amSI h (amU h.2.1 a x.toNatClampNeg y)) 0 0) := (amWp_dec rfl dX6_shifts_99 rfl).trans rfl
theorem wX6_shifts_100 {ret F n h} {v0 v1 v2 v3 v4 st x} : eX6_shifts ret F (n + 1) 100 [v0, v1, v2, v3, v4, .int x] (st) h 0 0 = (eX6_shifts ret F n 102 [v0, v1, v2, v3, v4, .int x] (.int x :: st) h 0 0) := (amWp_dec rfl dX6_shifts_100 rfl).trans rfl
theorem wX6_shifts_102 {ret F n h} {v0 v1 v2 v3 v5 st x} : eX6_shifts ret F (n + 1) 102 [v0, v1, v2, v3, .int x, v5] (st) h 0 0 = (eX6_shifts ret F n 104 [v0, v1, v2, v3, .int x, v5] (.int x :: st) h 0 0) := (amWp_dec rfl dX6_shifts_102 rfl).trans rfl
theorem wX6_shifts_104 {ret F n h} {v0 v1 v2 v3 v4 v5 st y x} : eX6_shifts ret F (n + 1) 104 [v0, v1, v2, v3, v4, v5] (.int y :: .int x :: st) h 0 0 = (eX6_shifts ret F n 105 [v0, v1, v2, v3, v4, v5] (.int (x + y) :: st) h 0 0) := (amWp_dec rfl dX6_shifts_104 rfl).trans rfl
theorem wX6_shifts_105 {ret F n h} {v0 v1 v2 v3 v4 v5 st x} : eX6_shifts ret F (n + 1) 105 [v0, v1, v2, v3, v4, v5] (.int x :: st) h 0 0 = (eX6_shifts ret F n 107 [v0, v1, v2, v3, amClr v4, .int x] (st) h 0 0) := (amWp_dec rfl dX6_shifts_105 rfl).trans (amTrue (Nat.le_of_ble_eq_true rfl))
theorem wX6_shifts_107 {ret F n h} {v0 v1 v2 v3 v4 v5 st} : eX6_shifts ret F (n + 1) 107 [v0, v1, v2, v3, v4, v5] (st) h 0 0 = (eX6_shifts ret F n 71 [v0, v1, v2, v3, v4, v5] (st) h 0 0) := (amWp_dec rfl dX6_shifts_107 rfl).trans rfl
theorem wX6_shifts_110 {ret F n h} {v0 v1 v2 v3 v4 v5 st} : eX6_shifts ret F (n + 1) 110 [v0, v1, v2, v3, v4, v5] (st) h 0 0 = (amIsR v0 ∧ eX6_shifts ret F n 111 [v0, v1, v2, v3, v4, v5] (v0 :: st) h 0 0) := (amWp_dec rfl dX6_shifts_110 rfl).trans rfl
theorem wX6_shifts_111 {ret F n h} {v0 v1 v2 v3 v4 v5 a} : eX6_shifts ret F (n + 1) 111 [v0, v1, v2, v3, v4, v5] (.ref a :: []) h 0 0 = (h.1 a = (0, 6) ∧ eX6_shifts ret F n 114 [v0, v1, v2, v3, v4, v5] (va_rf (h.2.2.2.1 a 0) :: []) h 0 0) := (amWp_dec rfl dX6_shifts_111 rfl).trans (amS4 (Nat.le_of_ble_eq_true rfl) (Nat.le_of_ble_eq_true rfl) (Nat.le_of_ble_eq_true rfl) (Nat.le_of_ble_eq_true rfl))
theorem wX6_shifts_114 {ret F n h} {v0 v1 v2 v3 v4 v5 st} : eX6_shifts ret F (n + 1) 114 [v0, v1, v2, v3, v4, v5] (st) h 0 0 = (eX6_shifts ret F n 116 [v0, v1, v2, v3, v4, v5] (.int (nI 6) :: st) h 0 0) := (amWp_dec rfl dX6_shifts_114 rfl).trans rfl
theorem wX6_shifts_116 {ret F n h} {v0 v1 v3 v4 v5 st x} : eX6_shifts ret F (n + 1) 116 [v0, v1, .int x, v3, v4, v5] (st) h 0 0 = (eX6_shifts ret F n 117 [v0, v1, .int x, v3, v4, v5] (.int x :: st) h 0 0) := (amWp_dec rfl dX6_shifts_116 rfl).trans rfl
theorem wX6_shifts_117 {ret F n h} {v0 v1 v2 v3 v4 v5 st y x} : eX6_shifts ret F (n + 1) 117 [v0, v1, v2, v3, v4, v5] (.int y :: .int x :: st) h 0 0 = (eX6_shifts ret F n 118 [v0, v1, v2, v3, v4, v5] (.int (x + y) :: st) h 0 0) := (amWp_dec rfl dX6_shifts_117 rfl).trans rfl
theorem wX6_shifts_118 {ret F n h} {v0 v1 v2 v4 v5 st x} : eX6_shifts ret F (n + 1) 118 [v0, v1, v2, .int x, v4, v5] (st) h 0 0 = (eX6_shifts ret F n 119 [v0, v1, v2, .int x, v4, v5] (.int x :: st) h 0 0) := (amWp_dec rfl dX6_shifts_118 rfl).trans rfl
theorem wX6_shifts_119 {ret F n h} {v0 v1 v2 v3 v4 v5 st y x a} : eX6_shifts ret F (n + 1) 119 [v0, v1, v2, v3, v4, v5] (.int y :: .int x :: .ref a :: st) h 0 0 = ((h.1 a).1 = 1 ∧ vp_in x (h.1 a).2 ∧ amN0 ≤ a ∧ eX6_shifts ret F n 120 [v0, v1, v2, v3, v4, v5] (st) (amSI h (amU h.2.1 a x.toNatClampNeg y)) 0 0) := (amWp_dec rfl dX6_shifts_119 rfl).trans rfl
theorem wX6_shifts_120 {ret F n h} {v0 v1 v2 v4 v5 st x} : eX6_shifts ret F (n + 1) 120 [v0, v1, v2, .int x, v4, v5] (st) h 0 0 = (eX6_shifts ret F n 121 [v0, v1, v2, .int x, v4, v5] (.int x :: st) h 0 0) := (amWp_dec rfl dX6_shifts_120 rfl).trans rfl
theorem wX6_shifts_121 {ret F n h} {v0 v1 v2 v3 v4 v5 x} : eX6_shifts ret F (n + 1) 121 [v0, v1, v2, v3, v4, v5] ([.int x]) h 0 0 = (ret (some (.int x)) h 0 0) := (amWp_dec rfl dX6_shifts_121 rfl).trans (amTrue ⟨_, rfl, rfl⟩)
theorem evX6_shifts (l : Launch) (G : amG) : ∀ pc S i sz, amLk rX6_shifts pc = some S → decode cX6_shifts pc = .ok (i, sz) → amSiteP pc G l yX6_shifts.cls yX6_shifts.name yX6_shifts.desc (amRm 2 0 0) i sz S.1 S.2.1 S.2.2.1 S.2.2.2 := amLk_ok (by
  refine List.forall_mem_cons.mpr ⟨⟨_, _, dX6_shifts_4, amSite.P (amSiteGet ⟨_, rfl, by decide, Or.inl q1295⟩)⟩, ?_⟩
  refine List.forall_mem_cons.mpr ⟨⟨_, _, dX6_shifts_12, amSite.P (amSiteS (metX6_in l G) rfl (by decide) (by decide) (lw_S q1381 q1382 q94 q1383) ⟨by decide +kernel, by decide +kernel, by decide +kernel⟩)⟩, ?_⟩
  refine List.forall_mem_cons.mpr ⟨⟨_, _, dX6_shifts_22, amSite.P (amSiteGet ⟨_, rfl, by decide, Or.inl q1295⟩)⟩, ?_⟩
  refine List.forall_mem_cons.mpr ⟨⟨_, _, dX6_shifts_30, amSite.P (amSiteS (metX6_in l G) rfl (by decide) (by decide) (lw_S q1381 q1382 q94 q1383) ⟨by decide +kernel, by decide +kernel, by decide +kernel⟩)⟩, ?_⟩
  refine List.forall_mem_cons.mpr ⟨⟨_, _, dX6_shifts_47, amSite.P (amSiteGet ⟨_, rfl, by decide, Or.inl q1295⟩)⟩, ?_⟩
  refine List.forall_mem_cons.mpr ⟨⟨_, _, dX6_shifts_78, amSite.P (amSiteGet ⟨_, rfl, by decide, Or.inl q1295⟩)⟩, ?_⟩
  refine List.forall_mem_cons.mpr ⟨⟨_, _, dX6_shifts_87, amSite.P (amSiteGet ⟨_, rfl, by decide, Or.inl q1295⟩)⟩, ?_⟩
  refine List.forall_mem_cons.mpr ⟨⟨_, _, dX6_shifts_111, amSite.P (amSiteGet ⟨_, rfl, by decide, Or.inl q1295⟩)⟩, ?_⟩
  exact fun _ h => absurd h List.not_mem_nil)
theorem goX6_shifts {ret F} (hF : amCld cX6_shifts kX6_shifts (amLk rX6_shifts) (some .int) 0 0 ret F) (n : Nat) {pc ls st h k z} (q : sX6_shifts ret F n pc ls st h k z) : F pc ls st h k z := hF.1 n pc ls st h k z q
theorem metX6_shifts (l : Launch) (G : amG) : amMet l G yX6_shifts (ws_ yX6_shifts cX6_shifts 6 (some .int)) 2 0 0 tX6_shifts := by
  refine amMet_of (cut := kX6_shifts) (by decide +kernel) (evX6_shifts l G) ?_
  intro as h K hT
  match as, hT with
  | [.ref t, .int p0, .int q0], ⟨S, e1, hA, hK⟩ =>
  refine ⟨Nat.le_of_ble_eq_true rfl, fun F hF => ?_⟩
  show F 0 [.ref t, .int p0, .int q0, .retAddr 0, .retAddr 0, .retAddr 0] [] h 0 0
  obtain ⟨t, rfl⟩ : ∃ i : Nat, i = t := ⟨_, rfl⟩
  subst e1
  have hR := hA.1
  have hS := hA.2.1
  have hO := hA.2.2
  have n7 := hS.n7
  have hn : h.2.1 125 0 = nI S.ord.length := hS.n
  have key0 : ∀ c, shfR S p0 q0 = (S, c) → amRet 0 0 K (some (.int c)) h 0 0 := fun c e => by
    have key := hK h.2.1
    rw [e] at key
    exact amRet.of (by decide) (by decide) (key hS (maFr.rf _))
  by_cases hp : ∃ j, j < S.ord.length ∧ p0 = nI j
  · obtain ⟨p, hp, rfl⟩ := hp
    have ecp : (nI p).toNatClampNeg = p := amCl_nI (by omega)
    have pT : (lN 0 ≤ (nI p).toInt64 ∧ (nI p).toInt64 ≤ (nI S.ord.length - nI 1).toInt64) := (isBk n7).mpr ⟨p, hp, rfl⟩
    by_cases hq : ∃ j, j < S.ord.length ∧ q0 = nI j
    · obtain ⟨q, hq, rfl⟩ := hq
      have ecq : (nI q).toNatClampNeg = q := amCl_nI (by omega)
      have qT : (lN 0 ≤ (nI q).toInt64 ∧ (nI q).toInt64 ≤ (nI S.ord.length - nI 1).toInt64) := (isBk n7).mpr ⟨q, hq, rfl⟩
      have c1 : ¬ ¬ (((nI p).toNatClampNeg < S.ord.length ∧ nI p = nI (nI p).toNatClampNeg) ∧ ((nI q).toNatClampNeg < S.ord.length ∧ nI q = nI (nI q).toNatClampNeg)) := fun z => z (by rw [ecp, ecq]; exact ⟨⟨hp, rfl⟩, ⟨hq, rfl⟩⟩)
      by_cases hpq : p = q
      · have := key0 (-2) (by rw [shfR, if_neg c1, if_pos (by rw [hpq])])
        have pq' : (p = q) = True := eq_true hpq
        refine goX6_shifts hF 80 ?_
        simp (disch := omega) only [wX6_shifts_0, uX6_shifts_0, wX6_shifts_1, wX6_shifts_2, wX6_shifts_3, wX6_shifts_4, wX6_shifts_7, wX6_shifts_8, wX6_shifts_9, wX6_shifts_10, wX6_shifts_11, wX6_shifts_12, wX6_shifts_15, wX6_shifts_18, wX6_shifts_19, wX6_shifts_20, wX6_shifts_21, wX6_shifts_22, wX6_shifts_25, wX6_shifts_26, wX6_shifts_27, wX6_shifts_28, wX6_shifts_29, wX6_shifts_30, wX6_shifts_33, wX6_shifts_36, wX6_shifts_37, wX6_shifts_38, wX6_shifts_39, wX6_shifts_40, wX6_shifts_43, wX6_shifts_45, wX6_shifts_46, wX6_shifts_47, wX6_shifts_50, wX6_shifts_52, wX6_shifts_53, wX6_shifts_54, wX6_shifts_55, wX6_shifts_56, wX6_shifts_57, wX6_shifts_58, wX6_shifts_61, wX6_shifts_62, wX6_shifts_65, wX6_shifts_66, wX6_shifts_68, wX6_shifts_69, wX6_shifts_71, uX6_shifts_71, wX6_shifts_73, wX6_shifts_74, wX6_shifts_77, wX6_shifts_78, wX6_shifts_81, wX6_shifts_83, wX6_shifts_85, wX6_shifts_86, wX6_shifts_87, wX6_shifts_90, wX6_shifts_92, wX6_shifts_94, wX6_shifts_95, wX6_shifts_97, wX6_shifts_98, wX6_shifts_99, wX6_shifts_100, wX6_shifts_102, wX6_shifts_104, wX6_shifts_105, wX6_shifts_107, wX6_shifts_110, wX6_shifts_111, wX6_shifts_114, wX6_shifts_116, wX6_shifts_117, wX6_shifts_118, wX6_shifts_119, wX6_shifts_120, wX6_shifts_121, amSI_1, amSI_2, amSI_3, amSI_s, amU_at, amIsR_ref, amIsR_null, amIsR_rf, amRf_some, amRf_none, amClr_int, amClr_ref, amClr_null, amClr_long, amClr_ra, amClr_rf, amFit_int, amFit_oref, amFit_aref, amFit_onull, amFit_anull, amOptSome, amOptNone, List.cons_append, List.nil_append, true_and, and_true, true_implies, not_true_eq_false, not_false_eq_true, false_implies, and_self, Nat.add_zero, Nat.zero_add, ne_eq, Prod.mk.injEq, amC01_0, amC01_1, amC01_nb, amNb0, amNb1, amTcpI_d, Nat.reduceLeDiff, Nat.reduceAdd, Nat.reduceSub, Nat.reduceEqDiff, Nat.le_refl, amN0le, hR.s, hR.r, amVI, amCl_nI, amEqI, tX6_in_d, hn, pT, qT, pq']
        exact this
      · have pq' : (p = q) = False := eq_false hpq
        have sp := hS.o0 p hp
        rw [shfR, if_neg c1, if_neg (by rw [amEqI (by omega) (by omega)]; exact hpq), ecp, ecq] at hK
        have fin : ∀ m v4, lsI h.2.1 m S.ord.length (fun r => if p ≤ r ∧ r < q then S.ord.getD (r + 1) 0 else if q < r ∧ r ≤ p then S.ord.getD (r - 1) 0 else S.ord.getD r 0) (fun r => S.sets.getD r 0) (fun r => S.ahead.getD r 0) → m 125 0 = nI S.ord.length → F 71 [.ref 124, .int (nI p), .int (nI q), .int (nI (S.ord.getD p 0)), v4, .int (nI q)] [] (amSI h m) 0 0 := by
          intro m v4 hl m0
          have key := hK (amU m 125 (6 + q) (nI (S.ord.getD p 0))) ((hl.o n7 (by omega) (S.ord.getD p 0)).row hS n7 (shift_len hp hq) hS.ls hS.la (by
            simp (disch := omega) only [amU_at, amU_ne, amU_nj, amU_neR, up_ne, up_at, amSI_2]
            exact m0) rfl (fun r hr => shift_getD hp hq r) (fun r hr => rfl) (fun r hr => rfl)) (hl.o n7 (by omega) (S.ord.getD p 0)).fr
          refine goX6_shifts hF 80 ?_
          simp (disch := omega) only [wX6_shifts_0, uX6_shifts_0, wX6_shifts_1, wX6_shifts_2, wX6_shifts_3, wX6_shifts_4, wX6_shifts_7, wX6_shifts_8, wX6_shifts_9, wX6_shifts_10, wX6_shifts_11, wX6_shifts_12, wX6_shifts_15, wX6_shifts_18, wX6_shifts_19, wX6_shifts_20, wX6_shifts_21, wX6_shifts_22, wX6_shifts_25, wX6_shifts_26, wX6_shifts_27, wX6_shifts_28, wX6_shifts_29, wX6_shifts_30, wX6_shifts_33, wX6_shifts_36, wX6_shifts_37, wX6_shifts_38, wX6_shifts_39, wX6_shifts_40, wX6_shifts_43, wX6_shifts_45, wX6_shifts_46, wX6_shifts_47, wX6_shifts_50, wX6_shifts_52, wX6_shifts_53, wX6_shifts_54, wX6_shifts_55, wX6_shifts_56, wX6_shifts_57, wX6_shifts_58, wX6_shifts_61, wX6_shifts_62, wX6_shifts_65, wX6_shifts_66, wX6_shifts_68, wX6_shifts_69, wX6_shifts_71, uX6_shifts_71, wX6_shifts_73, wX6_shifts_74, wX6_shifts_77, wX6_shifts_78, wX6_shifts_81, wX6_shifts_83, wX6_shifts_85, wX6_shifts_86, wX6_shifts_87, wX6_shifts_90, wX6_shifts_92, wX6_shifts_94, wX6_shifts_95, wX6_shifts_97, wX6_shifts_98, wX6_shifts_99, wX6_shifts_100, wX6_shifts_102, wX6_shifts_104, wX6_shifts_105, wX6_shifts_107, wX6_shifts_110, wX6_shifts_111, wX6_shifts_114, wX6_shifts_116, wX6_shifts_117, wX6_shifts_118, wX6_shifts_119, wX6_shifts_120, wX6_shifts_121, amSI_1, amSI_2, amSI_3, amSI_s, amU_at, amIsR_ref, amIsR_null, amIsR_rf, amRf_some, amRf_none, amClr_int, amClr_ref, amClr_null, amClr_long, amClr_ra, amClr_rf, amFit_int, amFit_oref, amFit_aref, amFit_onull, amFit_anull, amOptSome, amOptNone, List.cons_append, List.nil_append, true_and, and_true, true_implies, not_true_eq_false, not_false_eq_true, false_implies, and_self, Nat.add_zero, Nat.zero_add, ne_eq, Prod.mk.injEq, amC01_0, amC01_1, amC01_nb, amNb0, amNb1, amTcpI_d, Nat.reduceLeDiff, Nat.reduceAdd, Nat.reduceSub, Nat.reduceEqDiff, Nat.le_refl, amN0le, hR.s, hR.r, amVI, amCl_nI, amEqI, amAdd]
          exact amRet.of (by decide) (by decide) key
        have up : ∀ t at' m, at' + t = q → p ≤ at' → lsI h.2.1 m S.ord.length (fun r => if p ≤ r ∧ r < at' then S.ord.getD (r + 1) 0 else S.ord.getD r 0) (fun r => S.sets.getD r 0) (fun r => S.ahead.getD r 0) → m 125 0 = nI S.ord.length → F 71 [.ref 124, .int (nI p), .int (nI q), .int (nI (S.ord.getD p 0)), .int (nI 1), .int (nI at')] [] (amSI h m) 0 0 := by
          intro t
          induction t with
          | zero =>
            intro at' m e1 e2 hl m0
            have e : at' = q := by omega
            subst e
            refine fin m _ (hl.wd (Nat.le_refl _) (fun r hr => ?_) (fun r hr => rfl) (fun r hr => rfl)) m0
            by_cases y : p ≤ r ∧ r < at'
            · rw [if_pos y, if_pos y]
            · rw [if_neg y, if_neg y, if_neg (by omega)]
          | succ t ih =>
            intro at' m e1 e2 hl m0
            have qF : (at' = q) = False := eq_false (by omega)
            have mo := hl.1 (at' + 1) (by omega)
            dsimp only at mo
            rw [if_neg (by omega)] at mo
            have nx := ih (at' + 1) (amU m 125 (6 + at') (nI (S.ord.getD (at' + 1) 0))) (by omega) (by omega) ((hl.o n7 (by omega) (S.ord.getD (at' + 1) 0)).wd (Nat.le_refl _) (fun r hr => by
              by_cases y : r = at'
              · subst y
                rw [if_pos (by omega), if_pos rfl]
              · rw [if_neg y]
                by_cases y2 : p ≤ r ∧ r < at'
                · rw [if_pos (by omega), if_pos y2]
                · rw [if_neg (by omega), if_neg y2]) (fun r hr => rfl) (fun r hr => rfl)) (by
              simp (disch := omega) only [amU_at, amU_ne, amU_nj, amU_neR, up_ne, up_at, amSI_2]
              exact m0)
            refine goX6_shifts hF 80 ?_
            simp (disch := omega) only [wX6_shifts_0, uX6_shifts_0, wX6_shifts_1, wX6_shifts_2, wX6_shifts_3, wX6_shifts_4, wX6_shifts_7, wX6_shifts_8, wX6_shifts_9, wX6_shifts_10, wX6_shifts_11, wX6_shifts_12, wX6_shifts_15, wX6_shifts_18, wX6_shifts_19, wX6_shifts_20, wX6_shifts_21, wX6_shifts_22, wX6_shifts_25, wX6_shifts_26, wX6_shifts_27, wX6_shifts_28, wX6_shifts_29, wX6_shifts_30, wX6_shifts_33, wX6_shifts_36, wX6_shifts_37, wX6_shifts_38, wX6_shifts_39, wX6_shifts_40, wX6_shifts_43, wX6_shifts_45, wX6_shifts_46, wX6_shifts_47, wX6_shifts_50, wX6_shifts_52, wX6_shifts_53, wX6_shifts_54, wX6_shifts_55, wX6_shifts_56, wX6_shifts_57, wX6_shifts_58, wX6_shifts_61, wX6_shifts_62, wX6_shifts_65, wX6_shifts_66, wX6_shifts_68, wX6_shifts_69, wX6_shifts_71, uX6_shifts_71, wX6_shifts_73, wX6_shifts_74, wX6_shifts_77, wX6_shifts_78, wX6_shifts_81, wX6_shifts_83, wX6_shifts_85, wX6_shifts_86, wX6_shifts_87, wX6_shifts_90, wX6_shifts_92, wX6_shifts_94, wX6_shifts_95, wX6_shifts_97, wX6_shifts_98, wX6_shifts_99, wX6_shifts_100, wX6_shifts_102, wX6_shifts_104, wX6_shifts_105, wX6_shifts_107, wX6_shifts_110, wX6_shifts_111, wX6_shifts_114, wX6_shifts_116, wX6_shifts_117, wX6_shifts_118, wX6_shifts_119, wX6_shifts_120, wX6_shifts_121, amSI_1, amSI_2, amSI_3, amSI_s, amU_at, amIsR_ref, amIsR_null, amIsR_rf, amRf_some, amRf_none, amClr_int, amClr_ref, amClr_null, amClr_long, amClr_ra, amClr_rf, amFit_int, amFit_oref, amFit_aref, amFit_onull, amFit_anull, amOptSome, amOptNone, List.cons_append, List.nil_append, true_and, and_true, true_implies, not_true_eq_false, not_false_eq_true, false_implies, and_self, Nat.add_zero, Nat.zero_add, ne_eq, Prod.mk.injEq, amC01_0, amC01_1, amC01_nb, amNb0, amNb1, amTcpI_d, Nat.reduceLeDiff, Nat.reduceAdd, Nat.reduceSub, Nat.reduceEqDiff, Nat.le_refl, amN0le, hR.s, hR.r, amVI, amCl_nI, amEqI, amAdd, qF, Nat.add_assoc, mo]
            exact nx
        have down : ∀ t at' m, q + t = at' → at' ≤ p → lsI h.2.1 m S.ord.length (fun r => if at' < r ∧ r ≤ p then S.ord.getD (r - 1) 0 else S.ord.getD r 0) (fun r => S.sets.getD r 0) (fun r => S.ahead.getD r 0) → m 125 0 = nI S.ord.length → F 71 [.ref 124, .int (nI p), .int (nI q), .int (nI (S.ord.getD p 0)), .int (-1), .int (nI at')] [] (amSI h m) 0 0 := by
          intro t
          induction t with
          | zero =>
            intro at' m e1 e2 hl m0
            have e : at' = q := by omega
            subst e
            refine fin m _ (hl.wd (Nat.le_refl _) (fun r hr => ?_) (fun r hr => rfl) (fun r hr => rfl)) m0
            by_cases y : at' < r ∧ r ≤ p
            · rw [if_neg (by omega), if_pos y]
            · rw [if_neg (by omega), if_neg y]
          | succ t ih =>
            intro at' m e1 e2 hl m0
            obtain ⟨b, rfl⟩ : ∃ b, at' = b + 1 := ⟨at' - 1, by omega⟩
            have qF : (b + 1 = q) = False := eq_false (by omega)
            have mo := hl.1 b (by omega)
            dsimp only at mo
            rw [if_neg (by omega)] at mo
            have ix : nI (6 + (b + 1)) + (-1) = nI (6 + b) := by rw [← Nat.add_assoc]; exact nM1 _
            have nx := ih b (amU m 125 (6 + (b + 1)) (nI (S.ord.getD b 0))) (by omega) (by omega) ((hl.o n7 (by omega) (S.ord.getD b 0)).wd (Nat.le_refl _) (fun r hr => by
              by_cases y : r = b + 1
              · subst y
                rw [if_pos (by omega), if_pos rfl, Nat.add_sub_cancel]
              · rw [if_neg y]
                by_cases y2 : b + 1 < r ∧ r ≤ p
                · rw [if_pos (by omega), if_pos y2]
                · rw [if_neg (by omega), if_neg y2]) (fun r hr => rfl) (fun r hr => rfl)) (by
              simp (disch := omega) only [amU_at, amU_ne, amU_nj, amU_neR, up_ne, up_at, amSI_2]
              exact m0)
            refine goX6_shifts hF 80 ?_
            simp (disch := omega) only [wX6_shifts_0, uX6_shifts_0, wX6_shifts_1, wX6_shifts_2, wX6_shifts_3, wX6_shifts_4, wX6_shifts_7, wX6_shifts_8, wX6_shifts_9, wX6_shifts_10, wX6_shifts_11, wX6_shifts_12, wX6_shifts_15, wX6_shifts_18, wX6_shifts_19, wX6_shifts_20, wX6_shifts_21, wX6_shifts_22, wX6_shifts_25, wX6_shifts_26, wX6_shifts_27, wX6_shifts_28, wX6_shifts_29, wX6_shifts_30, wX6_shifts_33, wX6_shifts_36, wX6_shifts_37, wX6_shifts_38, wX6_shifts_39, wX6_shifts_40, wX6_shifts_43, wX6_shifts_45, wX6_shifts_46, wX6_shifts_47, wX6_shifts_50, wX6_shifts_52, wX6_shifts_53, wX6_shifts_54, wX6_shifts_55, wX6_shifts_56, wX6_shifts_57, wX6_shifts_58, wX6_shifts_61, wX6_shifts_62, wX6_shifts_65, wX6_shifts_66, wX6_shifts_68, wX6_shifts_69, wX6_shifts_71, uX6_shifts_71, wX6_shifts_73, wX6_shifts_74, wX6_shifts_77, wX6_shifts_78, wX6_shifts_81, wX6_shifts_83, wX6_shifts_85, wX6_shifts_86, wX6_shifts_87, wX6_shifts_90, wX6_shifts_92, wX6_shifts_94, wX6_shifts_95, wX6_shifts_97, wX6_shifts_98, wX6_shifts_99, wX6_shifts_100, wX6_shifts_102, wX6_shifts_104, wX6_shifts_105, wX6_shifts_107, wX6_shifts_110, wX6_shifts_111, wX6_shifts_114, wX6_shifts_116, wX6_shifts_117, wX6_shifts_118, wX6_shifts_119, wX6_shifts_120, wX6_shifts_121, amSI_1, amSI_2, amSI_3, amSI_s, amU_at, amIsR_ref, amIsR_null, amIsR_rf, amRf_some, amRf_none, amClr_int, amClr_ref, amClr_null, amClr_long, amClr_ra, amClr_rf, amFit_int, amFit_oref, amFit_aref, amFit_onull, amFit_anull, amOptSome, amOptNone, List.cons_append, List.nil_append, true_and, and_true, true_implies, not_true_eq_false, not_false_eq_true, false_implies, and_self, Nat.add_zero, Nat.zero_add, ne_eq, Prod.mk.injEq, amC01_0, amC01_1, amC01_nb, amNb0, amNb1, amTcpI_d, Nat.reduceLeDiff, Nat.reduceAdd, Nat.reduceSub, Nat.reduceEqDiff, Nat.le_refl, amN0le, hR.s, hR.r, amVI, amCl_nI, amEqI, amAdd, qF, ix, nM1, mo]
            exact nx
        by_cases lt : p < q
        · have lt' : (q ≤ p) = False := eq_false (by omega)
          have nx := up (q - p) p h.2.1 (by omega) (Nat.le_refl _) (hS.lsI.wd (Nat.le_refl _) (fun r hr => by rw [if_neg (by omega)]) (fun r hr => rfl) (fun r hr => rfl)) hn
          refine goX6_shifts hF 80 ?_
          simp (disch := omega) only [wX6_shifts_0, uX6_shifts_0, wX6_shifts_1, wX6_shifts_2, wX6_shifts_3, wX6_shifts_4, wX6_shifts_7, wX6_shifts_8, wX6_shifts_9, wX6_shifts_10, wX6_shifts_11, wX6_shifts_12, wX6_shifts_15, wX6_shifts_18, wX6_shifts_19, wX6_shifts_20, wX6_shifts_21, wX6_shifts_22, wX6_shifts_25, wX6_shifts_26, wX6_shifts_27, wX6_shifts_28, wX6_shifts_29, wX6_shifts_30, wX6_shifts_33, wX6_shifts_36, wX6_shifts_37, wX6_shifts_38, wX6_shifts_39, wX6_shifts_40, wX6_shifts_43, wX6_shifts_45, wX6_shifts_46, wX6_shifts_47, wX6_shifts_50, wX6_shifts_52, wX6_shifts_53, wX6_shifts_54, wX6_shifts_55, wX6_shifts_56, wX6_shifts_57, wX6_shifts_58, wX6_shifts_61, wX6_shifts_62, wX6_shifts_65, wX6_shifts_66, wX6_shifts_68, wX6_shifts_69, wX6_shifts_71, uX6_shifts_71, wX6_shifts_73, wX6_shifts_74, wX6_shifts_77, wX6_shifts_78, wX6_shifts_81, wX6_shifts_83, wX6_shifts_85, wX6_shifts_86, wX6_shifts_87, wX6_shifts_90, wX6_shifts_92, wX6_shifts_94, wX6_shifts_95, wX6_shifts_97, wX6_shifts_98, wX6_shifts_99, wX6_shifts_100, wX6_shifts_102, wX6_shifts_104, wX6_shifts_105, wX6_shifts_107, wX6_shifts_110, wX6_shifts_111, wX6_shifts_114, wX6_shifts_116, wX6_shifts_117, wX6_shifts_118, wX6_shifts_119, wX6_shifts_120, wX6_shifts_121, amSI_1, amSI_2, amSI_3, amSI_s, amU_at, amIsR_ref, amIsR_null, amIsR_rf, amRf_some, amRf_none, amClr_int, amClr_ref, amClr_null, amClr_long, amClr_ra, amClr_rf, amFit_int, amFit_oref, amFit_aref, amFit_onull, amFit_anull, amOptSome, amOptNone, List.cons_append, List.nil_append, true_and, and_true, true_implies, not_true_eq_false, not_false_eq_true, false_implies, and_self, Nat.add_zero, Nat.zero_add, ne_eq, Prod.mk.injEq, amC01_0, amC01_1, amC01_nb, amNb0, amNb1, amTcpI_d, Nat.reduceLeDiff, Nat.reduceAdd, Nat.reduceSub, Nat.reduceEqDiff, Nat.le_refl, amN0le, hR.s, hR.r, amVI, amCl_nI, amEqI, amLeI, amAdd, tX6_in_d, hn, pT, qT, pq', lt', sp]
          exact nx
        · have lt' : (q ≤ p) = True := eq_true (by omega)
          have nx := down (p - q) p h.2.1 (by omega) (Nat.le_refl _) (hS.lsI.wd (Nat.le_refl _) (fun r hr => by rw [if_neg (by omega)]) (fun r hr => rfl) (fun r hr => rfl)) hn
          refine goX6_shifts hF 80 ?_
          simp (disch := omega) only [wX6_shifts_0, uX6_shifts_0, wX6_shifts_1, wX6_shifts_2, wX6_shifts_3, wX6_shifts_4, wX6_shifts_7, wX6_shifts_8, wX6_shifts_9, wX6_shifts_10, wX6_shifts_11, wX6_shifts_12, wX6_shifts_15, wX6_shifts_18, wX6_shifts_19, wX6_shifts_20, wX6_shifts_21, wX6_shifts_22, wX6_shifts_25, wX6_shifts_26, wX6_shifts_27, wX6_shifts_28, wX6_shifts_29, wX6_shifts_30, wX6_shifts_33, wX6_shifts_36, wX6_shifts_37, wX6_shifts_38, wX6_shifts_39, wX6_shifts_40, wX6_shifts_43, wX6_shifts_45, wX6_shifts_46, wX6_shifts_47, wX6_shifts_50, wX6_shifts_52, wX6_shifts_53, wX6_shifts_54, wX6_shifts_55, wX6_shifts_56, wX6_shifts_57, wX6_shifts_58, wX6_shifts_61, wX6_shifts_62, wX6_shifts_65, wX6_shifts_66, wX6_shifts_68, wX6_shifts_69, wX6_shifts_71, uX6_shifts_71, wX6_shifts_73, wX6_shifts_74, wX6_shifts_77, wX6_shifts_78, wX6_shifts_81, wX6_shifts_83, wX6_shifts_85, wX6_shifts_86, wX6_shifts_87, wX6_shifts_90, wX6_shifts_92, wX6_shifts_94, wX6_shifts_95, wX6_shifts_97, wX6_shifts_98, wX6_shifts_99, wX6_shifts_100, wX6_shifts_102, wX6_shifts_104, wX6_shifts_105, wX6_shifts_107, wX6_shifts_110, wX6_shifts_111, wX6_shifts_114, wX6_shifts_116, wX6_shifts_117, wX6_shifts_118, wX6_shifts_119, wX6_shifts_120, wX6_shifts_121, amSI_1, amSI_2, amSI_3, amSI_s, amU_at, amIsR_ref, amIsR_null, amIsR_rf, amRf_some, amRf_none, amClr_int, amClr_ref, amClr_null, amClr_long, amClr_ra, amClr_rf, amFit_int, amFit_oref, amFit_aref, amFit_onull, amFit_anull, amOptSome, amOptNone, List.cons_append, List.nil_append, true_and, and_true, true_implies, not_true_eq_false, not_false_eq_true, false_implies, and_self, Nat.add_zero, Nat.zero_add, ne_eq, Prod.mk.injEq, amC01_0, amC01_1, amC01_nb, amNb0, amNb1, amTcpI_d, Nat.reduceLeDiff, Nat.reduceAdd, Nat.reduceSub, Nat.reduceEqDiff, Nat.le_refl, amN0le, hR.s, hR.r, amVI, amCl_nI, amEqI, amLeI, amAdd, tX6_in_d, hn, pT, qT, pq', lt', sp]
          exact nx
    · have qF : ¬ (lN 0 ≤ q0.toInt64 ∧ q0.toInt64 ≤ (nI S.ord.length - nI 1).toInt64) := fun z => hq ((isBk n7).mp z)
      have := key0 (-1) (by rw [shfR, if_pos (fun z => hq ⟨_, z.2.1, z.2.2⟩)])
      refine goX6_shifts hF 80 ?_
      simp (disch := omega) only [wX6_shifts_0, uX6_shifts_0, wX6_shifts_1, wX6_shifts_2, wX6_shifts_3, wX6_shifts_4, wX6_shifts_7, wX6_shifts_8, wX6_shifts_9, wX6_shifts_10, wX6_shifts_11, wX6_shifts_12, wX6_shifts_15, wX6_shifts_18, wX6_shifts_19, wX6_shifts_20, wX6_shifts_21, wX6_shifts_22, wX6_shifts_25, wX6_shifts_26, wX6_shifts_27, wX6_shifts_28, wX6_shifts_29, wX6_shifts_30, wX6_shifts_33, wX6_shifts_36, wX6_shifts_37, wX6_shifts_38, wX6_shifts_39, wX6_shifts_40, wX6_shifts_43, wX6_shifts_45, wX6_shifts_46, wX6_shifts_47, wX6_shifts_50, wX6_shifts_52, wX6_shifts_53, wX6_shifts_54, wX6_shifts_55, wX6_shifts_56, wX6_shifts_57, wX6_shifts_58, wX6_shifts_61, wX6_shifts_62, wX6_shifts_65, wX6_shifts_66, wX6_shifts_68, wX6_shifts_69, wX6_shifts_71, uX6_shifts_71, wX6_shifts_73, wX6_shifts_74, wX6_shifts_77, wX6_shifts_78, wX6_shifts_81, wX6_shifts_83, wX6_shifts_85, wX6_shifts_86, wX6_shifts_87, wX6_shifts_90, wX6_shifts_92, wX6_shifts_94, wX6_shifts_95, wX6_shifts_97, wX6_shifts_98, wX6_shifts_99, wX6_shifts_100, wX6_shifts_102, wX6_shifts_104, wX6_shifts_105, wX6_shifts_107, wX6_shifts_110, wX6_shifts_111, wX6_shifts_114, wX6_shifts_116, wX6_shifts_117, wX6_shifts_118, wX6_shifts_119, wX6_shifts_120, wX6_shifts_121, amSI_1, amSI_2, amSI_3, amSI_s, amU_at, amIsR_ref, amIsR_null, amIsR_rf, amRf_some, amRf_none, amClr_int, amClr_ref, amClr_null, amClr_long, amClr_ra, amClr_rf, amFit_int, amFit_oref, amFit_aref, amFit_onull, amFit_anull, amOptSome, amOptNone, List.cons_append, List.nil_append, true_and, and_true, true_implies, not_true_eq_false, not_false_eq_true, false_implies, and_self, Nat.add_zero, Nat.zero_add, ne_eq, Prod.mk.injEq, amC01_0, amC01_1, amC01_nb, amNb0, amNb1, amTcpI_d, Nat.reduceLeDiff, Nat.reduceAdd, Nat.reduceSub, Nat.reduceEqDiff, Nat.le_refl, amN0le, hR.s, hR.r, amVI, amCl_nI, tX6_in_d, hn, pT, qF]
      exact this
  · have pF : ¬ (lN 0 ≤ p0.toInt64 ∧ p0.toInt64 ≤ (nI S.ord.length - nI 1).toInt64) := fun z => hp ((isBk n7).mp z)
    have := key0 (-1) (by rw [shfR, if_pos (fun z => hp ⟨_, z.1.1, z.1.2⟩)])
    refine goX6_shifts hF 80 ?_
    simp (disch := omega) only [wX6_shifts_0, uX6_shifts_0, wX6_shifts_1, wX6_shifts_2, wX6_shifts_3, wX6_shifts_4, wX6_shifts_7, wX6_shifts_8, wX6_shifts_9, wX6_shifts_10, wX6_shifts_11, wX6_shifts_12, wX6_shifts_15, wX6_shifts_18, wX6_shifts_19, wX6_shifts_20, wX6_shifts_21, wX6_shifts_22, wX6_shifts_25, wX6_shifts_26, wX6_shifts_27, wX6_shifts_28, wX6_shifts_29, wX6_shifts_30, wX6_shifts_33, wX6_shifts_36, wX6_shifts_37, wX6_shifts_38, wX6_shifts_39, wX6_shifts_40, wX6_shifts_43, wX6_shifts_45, wX6_shifts_46, wX6_shifts_47, wX6_shifts_50, wX6_shifts_52, wX6_shifts_53, wX6_shifts_54, wX6_shifts_55, wX6_shifts_56, wX6_shifts_57, wX6_shifts_58, wX6_shifts_61, wX6_shifts_62, wX6_shifts_65, wX6_shifts_66, wX6_shifts_68, wX6_shifts_69, wX6_shifts_71, uX6_shifts_71, wX6_shifts_73, wX6_shifts_74, wX6_shifts_77, wX6_shifts_78, wX6_shifts_81, wX6_shifts_83, wX6_shifts_85, wX6_shifts_86, wX6_shifts_87, wX6_shifts_90, wX6_shifts_92, wX6_shifts_94, wX6_shifts_95, wX6_shifts_97, wX6_shifts_98, wX6_shifts_99, wX6_shifts_100, wX6_shifts_102, wX6_shifts_104, wX6_shifts_105, wX6_shifts_107, wX6_shifts_110, wX6_shifts_111, wX6_shifts_114, wX6_shifts_116, wX6_shifts_117, wX6_shifts_118, wX6_shifts_119, wX6_shifts_120, wX6_shifts_121, amSI_1, amSI_2, amSI_3, amSI_s, amU_at, amIsR_ref, amIsR_null, amIsR_rf, amRf_some, amRf_none, amClr_int, amClr_ref, amClr_null, amClr_long, amClr_ra, amClr_rf, amFit_int, amFit_oref, amFit_aref, amFit_onull, amFit_anull, amOptSome, amOptNone, List.cons_append, List.nil_append, true_and, and_true, true_implies, not_true_eq_false, not_false_eq_true, false_implies, and_self, Nat.add_zero, Nat.zero_add, ne_eq, Prod.mk.injEq, amC01_0, amC01_1, amC01_nb, amNb0, amNb1, amTcpI_d, Nat.reduceLeDiff, Nat.reduceAdd, Nat.reduceSub, Nat.reduceEqDiff, Nat.le_refl, amN0le, hR.s, hR.r, amVI, amCl_nI, tX6_in_d, hn, pF]
    exact this
theorem tX6_shifts_d {t : Nat} {p0 q0 : Int32} {h : amH} {K : Option Value → amH → Prop} : tX6_shifts [.ref t, .int p0, .int q0] h K = ∃ S : HS, t = (124 : Nat) ∧ mdSys h S ∧ ∀ m', RwIs m' 125 0 (shfR S p0 q0).1 → maFr h.2.1 m' → K (some (.int (shfR S p0 q0).2)) (amSI h m') := rfl
