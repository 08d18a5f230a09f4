/-! the reference: a place read, an order read -/
set_option maxRecDepth 100000
/-- the reading, as it stands in the reference's cells -/
def MrIs (m : Nat → Nat → Int32) (D : RD) : Prop := (∀ w : Nat, w < 20 → m 135 w = nI (D.1 w).1 ∧ (0 < (D.1 w).1 → m 136 w = nI (D.1 w).2)) ∧ ∀ p : Nat, p < D.2.length → m 137 p = nI (D.2.getD p PL0).1 ∧ m 138 p = nI (D.2.getD p PL0).2.1 ∧ m 139 p = nI (D.2.getD p PL0).2.2.1 ∧ m 140 p = nI (D.2.getD p PL0).2.2.2
/-- nothing but the reading has changed -/
def mrFr (m m' : Nat → Nat → Int32) : Prop := ∀ i : Nat, (i < 135 ∨ 141 ≤ i) → m' i = m i
/-- within a place: the words, the place's four sets -/
def mdLp (m0 m : Nat → Nat → Int32) (p : Nat) (X : RW) (f a g l : Nat) : Prop := (∀ i : Nat, i < 20 → m 135 i = nI (X i).1 ∧ (0 < (X i).1 → m 136 i = nI (X i).2)) ∧ m 137 p = nI f ∧ m 138 p = nI a ∧ m 139 p = nI g ∧ m 140 p = nI l ∧ (∀ i : Nat, (137 ≤ i ∧ i < 141) → ∀ q, q ≠ p → m i q = m0 i q) ∧ mrFr m0 m
theorem mdLp.wd {m0 m p X f a g l} (h : mdLp m0 m p X f a g l) {Y : RW} (e : ∀ i : Nat, i < 20 → Y i = X i) : mdLp m0 m p Y f a g l := ⟨fun i hi => by rw [e i hi]; exact h.1 i hi, h.2⟩
/-- a word's strength and place set -/
theorem mdLp.st {m0 m p X f a g l} (h : mdLp m0 m p X f a g l) (j s : Nat) : mdLp m0 (amU (amU m 135 j (nI s)) 136 j (nI p)) p (fun i => if i = j then (s, p) else X i) f a g l := by
  obtain ⟨h1, h2, h3, h4, h5, h6, h7⟩ := h
  refine ⟨fun i hi => ?_, ?_, ?_, ?_, ?_, fun i hi q hq => ?_, fun i hi => ?_⟩
  · by_cases e : i = j
    · subst e
      dsimp only
      rw [if_pos rfl]
      refine ⟨?_, fun _ => ?_⟩
      · simp (disch := omega) only [amU_at, amU_ne, amU_nj, amU_neR, up_ne, up_at, amSI_2]
      · simp (disch := omega) only [amU_at, amU_ne, amU_nj, amU_neR, up_ne, up_at, amSI_2]
    · dsimp only
      rw [if_neg e]
      refine ⟨?_, fun z => ?_⟩
      · simp (disch := omega) only [amU_at, amU_ne, amU_nj, amU_neR, up_ne, up_at, amSI_2]
        exact (h1 i hi).1
      · simp (disch := omega) only [amU_at, amU_ne, amU_nj, amU_neR, up_ne, up_at, amSI_2]
        exact (h1 i hi).2 z
  · simp (disch := omega) only [amU_at, amU_ne, amU_nj, amU_neR, up_ne, up_at, amSI_2]
    exact h2
  · simp (disch := omega) only [amU_at, amU_ne, amU_nj, amU_neR, up_ne, up_at, amSI_2]
    exact h3
  · simp (disch := omega) only [amU_at, amU_ne, amU_nj, amU_neR, up_ne, up_at, amSI_2]
    exact h4
  · simp (disch := omega) only [amU_at, amU_ne, amU_nj, amU_neR, up_ne, up_at, amSI_2]
    exact h5
  · simp (disch := omega) only [amU_at, amU_ne, amU_nj, amU_neR, up_ne, up_at, amSI_2]
    exact h6 i hi q hq
  · simp (disch := omega) only [amU_at, amU_ne, amU_nj, amU_neR, up_ne, up_at, amSI_2]
    exact h7 i hi
/-- a word is lost -/
theorem mdLp.no {m0 m p X f a g l} (h : mdLp m0 m p X f a g l) (j : Nat) : mdLp m0 (amU m 135 j (nI 0)) p (fun i => if i = j then (0, (X i).2) else X i) f a g l := by
  obtain ⟨h1, h2, h3, h4, h5, h6, h7⟩ := h
  refine ⟨fun i hi => ?_, ?_, ?_, ?_, ?_, fun i hi q hq => ?_, fun i hi => ?_⟩
  · by_cases e : i = j
    · subst e
      dsimp only
      rw [if_pos rfl]
      refine ⟨?_, fun z => absurd z (Nat.lt_irrefl 0)⟩
      simp (disch := omega) only [amU_at, amU_ne, amU_nj, amU_neR, up_ne, up_at, amSI_2]
    · dsimp only
      rw [if_neg e]
      refine ⟨?_, fun z => ?_⟩
      · simp (disch := omega) only [amU_at, amU_ne, amU_nj, amU_neR, up_ne, up_at, amSI_2]
        exact (h1 i hi).1
      · simp (disch := omega) only [amU_at, amU_ne, amU_nj, amU_neR, up_ne, up_at, amSI_2]
        exact (h1 i hi).2 z
  · simp (disch := omega) only [amU_at, amU_ne, amU_nj, amU_neR, up_ne, up_at, amSI_2]
    exact h2
  · simp (disch := omega) only [amU_at, amU_ne, amU_nj, amU_neR, up_ne, up_at, amSI_2]
    exact h3
  · simp (disch := omega) only [amU_at, amU_ne, amU_nj, amU_neR, up_ne, up_at, amSI_2]
    exact h4
  · simp (disch := omega) only [amU_at, amU_ne, amU_nj, amU_neR, up_ne, up_at, amSI_2]
    exact h5
  · simp (disch := omega) only [amU_at, amU_ne, amU_nj, amU_neR, up_ne, up_at, amSI_2]
    exact h6 i hi q hq
  · simp (disch := omega) only [amU_at, amU_ne, amU_nj, amU_neR, up_ne, up_at, amSI_2]
    exact h7 i hi
/-- a set of the place changed -/
theorem mdLp.s1 {m0 m p X f a g l} (h : mdLp m0 m p X f a g l) (v : Nat) : mdLp m0 (amU m 137 p (nI v)) p X v a g l := by
  obtain ⟨h1, h2, h3, h4, h5, h6, h7⟩ := h
  refine ⟨fun i hi => ?_, ?_, ?_, ?_, ?_, fun i hi q hq => ?_, fun i hi => ?_⟩
  · simp (disch := omega) only [amU_at, amU_ne, amU_nj, amU_neR, up_ne, up_at, amSI_2]
    exact h1 i hi
  · simp (disch := omega) only [amU_at, amU_ne, amU_nj, amU_neR, up_ne, up_at, amSI_2]
  · simp (disch := omega) only [amU_at, amU_ne, amU_nj, amU_neR, up_ne, up_at, amSI_2]
    exact h3
  · simp (disch := omega) only [amU_at, amU_ne, amU_nj, amU_neR, up_ne, up_at, amSI_2]
    exact h4
  · simp (disch := omega) only [amU_at, amU_ne, amU_nj, amU_neR, up_ne, up_at, amSI_2]
    exact h5
  · simp (disch := omega) only [amU_at, amU_ne, amU_nj, amU_neR, up_ne, up_at, amSI_2]
    exact h6 i hi q hq
  · simp (disch := omega) only [amU_at, amU_ne, amU_nj, amU_neR, up_ne, up_at, amSI_2]
    exact h7 i hi
theorem mdLp.s2 {m0 m p X f a g l} (h : mdLp m0 m p X f a g l) (v : Nat) : mdLp m0 (amU m 138 p (nI v)) p X f v g l := by
  obtain ⟨h1, h2, h3, h4, h5, h6, h7⟩ := h
  refine ⟨fun i hi => ?_, ?_, ?_, ?_, ?_, fun i hi q hq => ?_, fun i hi => ?_⟩
  · simp (disch := omega) only [amU_at, amU_ne, amU_nj, amU_neR, up_ne, up_at, amSI_2]
    exact h1 i hi
  · simp (disch := omega) only [amU_at, amU_ne, amU_nj, amU_neR, up_ne, up_at, amSI_2]
    exact h2
  · simp (disch := omega) only [amU_at, amU_ne, amU_nj, amU_neR, up_ne, up_at, amSI_2]
  · simp (disch := omega) only [amU_at, amU_ne, amU_nj, amU_neR, up_ne, up_at, amSI_2]
    exact h4
  · simp (disch := omega) only [amU_at, amU_ne, amU_nj, amU_neR, up_ne, up_at, amSI_2]
    exact h5
  · simp (disch := omega) only [amU_at, amU_ne, amU_nj, amU_neR, up_ne, up_at, amSI_2]
    exact h6 i hi q hq
  · simp (disch := omega) only [amU_at, amU_ne, amU_nj, amU_neR, up_ne, up_at, amSI_2]
    exact h7 i hi
theorem mdLp.s3 {m0 m p X f a g l} (h : mdLp m0 m p X f a g l) (v : Nat) : mdLp m0 (amU m 139 p (nI v)) p X f a v l := by
  obtain ⟨h1, h2, h3, h4, h5, h6, h7⟩ := h
  refine ⟨fun i hi => ?_, ?_, ?_, ?_, ?_, fun i hi q hq => ?_, fun i hi => ?_⟩
  · simp (disch := omega) only [amU_at, amU_ne, amU_nj, amU_neR, up_ne, up_at, amSI_2]
    exact h1 i hi
  · simp (disch := omega) only [amU_at, amU_ne, amU_nj, amU_neR, up_ne, up_at, amSI_2]
    exact h2
  · simp (disch := omega) only [amU_at, amU_ne, amU_nj, amU_neR, up_ne, up_at, amSI_2]
    exact h3
  · simp (disch := omega) only [amU_at, amU_ne, amU_nj, amU_neR, up_ne, up_at, amSI_2]
  · simp (disch := omega) only [amU_at, amU_ne, amU_nj, amU_neR, up_ne, up_at, amSI_2]
    exact h5
  · simp (disch := omega) only [amU_at, amU_ne, amU_nj, amU_neR, up_ne, up_at, amSI_2]
    exact h6 i hi q hq
  · simp (disch := omega) only [amU_at, amU_ne, amU_nj, amU_neR, up_ne, up_at, amSI_2]
    exact h7 i hi
theorem mdLp.s4 {m0 m p X f a g l} (h : mdLp m0 m p X f a g l) (v : Nat) : mdLp m0 (amU m 140 p (nI v)) p X f a g v := by
  obtain ⟨h1, h2, h3, h4, h5, h6, h7⟩ := h
  refine ⟨fun i hi => ?_, ?_, ?_, ?_, ?_, fun i hi q hq => ?_, fun i hi => ?_⟩
  · simp (disch := omega) only [amU_at, amU_ne, amU_nj, amU_neR, up_ne, up_at, amSI_2]
    exact h1 i hi
  · simp (disch := omega) only [amU_at, amU_ne, amU_nj, amU_neR, up_ne, up_at, amSI_2]
    exact h2
  · simp (disch := omega) only [amU_at, amU_ne, amU_nj, amU_neR, up_ne, up_at, amSI_2]
    exact h3
  · simp (disch := omega) only [amU_at, amU_ne, amU_nj, amU_neR, up_ne, up_at, amSI_2]
    exact h4
  · simp (disch := omega) only [amU_at, amU_ne, amU_nj, amU_neR, up_ne, up_at, amSI_2]
  · simp (disch := omega) only [amU_at, amU_ne, amU_nj, amU_neR, up_ne, up_at, amSI_2]
    exact h6 i hi q hq
  · simp (disch := omega) only [amU_at, amU_ne, amU_nj, amU_neR, up_ne, up_at, amSI_2]
    exact h7 i hi
def tX6_reads : amT := fun as h K => match as with
  | [.ref a, .int p0, .int w0] => ∃ (S : HS) (D : RD) (words : Nat), a = (124 : Nat) ∧ mdAt h ∧ RwIs h.2.1 125 0 S ∧ hsB S ∧ rdOk D ∧ MrIs h.2.1 D ∧ D.2.length < 7 ∧ p0 = nI D.2.length ∧ w0 = nI words ∧ words < 1048576 ∧ ∀ m', MrIs m' (rdStep S.span S.rule S.prior D words) → mrFr h.2.1 m' → K none (amSI h m')
  | _ => False
/-! ReadingStagesModel.reads(II)V -/
def kX6_reads : Nat → Bool := fun pc => pc == 30 || pc == 140 || pc == 189
def rX6_reads : List (Nat × amS) := [(1, 1, 0, 0, amTget 6 15), (8, 1, 0, 0, amTget 6 16), (15, 1, 0, 0, amTget 6 17), (22, 1, 0, 0, amTget 6 18), (38, 1, 0, 0, amTget 6 0), (47, 2, 0, 0, tX6_has), (54, 1, 0, 0, amTget 6 15), (61, 1, 0, 0, amTget 6 13), (79, 1, 0, 0, amTget 6 16), (86, 1, 0, 0, amTget 6 13), (104, 1, 0, 0, amTget 6 13), (109, 1, 0, 0, amTget 6 13), (125, 1, 0, 0, amTget 6 13), (134, 1, 0, 0, amTget 6 14), (141, 1, 0, 0, amTget 6 13), (151, 1, 0, 0, amTget 6 14), (159, 1, 0, 0, amTget 6 13), (164, 2, 0, 0, (amRecv 6 tX6_lasts)), (171, 1, 0, 0, amTget 6 17), (183, 1, 0, 0, amTget 6 13), (190, 1, 0, 0, amTget 6 18), (197, 1, 0, 0, amTget 6 13)]
def eX6_reads (ret : Option Value → amH → Nat → Nat → Prop) (F : amX) : Nat → amX := amWp cX6_reads kX6_reads (amLk rX6_reads) none 0 0 ret F
def sX6_reads (ret : Option Value → amH → Nat → Nat → Prop) (F : amX) : Nat → amX := amWs cX6_reads kX6_reads (amLk rX6_reads) none 0 0 ret F
theorem wX6_reads_0 {ret F n h} {v0 v1 v2 v3 st} : eX6_reads ret F (n + 1) 0 [v0, v1, v2, v3] (st) h 0 0 = (amIsR v0 ∧ eX6_reads ret F n 1 [v0, v1, v2, v3] (v0 :: st) h 0 0) := (amWp_dec rfl dX6_reads_0 rfl).trans rfl
theorem uX6_reads_0 {ret F n h} {v0 v1 v2 v3 st} : sX6_reads ret F n 0 [v0, v1, v2, v3] (st) h 0 0 = (amIsR v0 ∧ eX6_reads ret F n 1 [v0, v1, v2, v3] (v0 :: st) h 0 0) := (amWs_dec dX6_reads_0 rfl).trans rfl
theorem wX6_reads_1 {ret F n h} {v0 v1 v2 v3 a} : eX6_reads ret F (n + 1) 1 [v0, v1, v2, v3] (.ref a :: []) h 0 0 = (h.1 a = (0, 6) ∧ eX6_reads ret F n 4 [v0, v1, v2, v3] (va_rf (h.2.2.2.1 a 15) :: []) h 0 0) := (amWp_dec rfl dX6_reads_1 rfl).trans (amS4 (Nat.le_of_ble_eq_true rfl) (Nat.le_of_ble_eq_true rfl) (Nat.le_of_ble_eq_true rfl) (Nat.le_of_ble_eq_true rfl))
theorem wX6_reads_4 {ret F n h} {v0 v2 v3 st x} : eX6_reads ret F (n + 1) 4 [v0, .int x, v2, v3] (st) h 0 0 = (eX6_reads ret F n 5 [v0, .int x, v2, v3] (.int x :: st) h 0 0) := (amWp_dec rfl dX6_reads_4 rfl).trans rfl
theorem wX6_reads_5 {ret F n h} {v0 v1 v2 v3 st} : eX6_reads ret F (n + 1) 5 [v0, v1, v2, v3] (st) h 0 0 = (eX6_reads ret F n 6 [v0, v1, v2, v3] (.int (nI 0) :: st) h 0 0) := (amWp_dec rfl dX6_reads_5 rfl).trans rfl
theorem wX6_reads_6 {ret F n h} {v0 v1 v2 v3 st y x a} : eX6_reads ret F (n + 1) 6 [v0, v1, v2, v3] (.int y :: .int x :: .ref a :: st) h 0 0 = ((h.1 a).1 = 1 ∧ vp_in x (h.1 a).2 ∧ amN0 ≤ a ∧ eX6_reads ret F n 7 [v0, v1, v2, v3] (st) (amSI h (amU h.2.1 a x.toNatClampNeg y)) 0 0) := (amWp_dec rfl dX6_reads_6 rfl).trans rfl
theorem wX6_reads_7 {ret F n h} {v0 v1 v2 v3 st} : eX6_reads ret F (n + 1) 7 [v0, v1, v2, v3] (st) h 0 0 = (amIsR v0 ∧ eX6_reads ret F n 8 [v0, v1, v2, v3] (v0 :: st) h 0 0) := (amWp_dec rfl dX6_reads_7 rfl).trans rfl
theorem wX6_reads_8 {ret F n h} {v0 v1 v2 v3 a} : eX6_reads ret F (n + 1) 8 [v0, v1, v2, v3] (.ref a :: []) h 0 0 = (h.1 a = (0, 6) ∧ eX6_reads ret F n 11 [v0, v1, v2, v3] (va_rf (h.2.2.2.1 a 16) :: []) h 0 0) := (amWp_dec rfl dX6_reads_8 rfl).trans (amS4 (Nat.le_of_ble_eq_true rfl) (Nat.le_of_ble_eq_true rfl) (Nat.le_of_ble_eq_true rfl) (Nat.le_of_ble_eq_true rfl))
theorem wX6_reads_11 {ret F n h} {v0 v2 v3 st x} : eX6_reads ret F (n + 1) 11 [v0, .int x, v2, v3] (st) h 0 0 = (eX6_reads ret F n 12 [v0, .int x, v2, v3] (.int x :: st) h 0 0) := (amWp_dec rfl dX6_reads_11 rfl).trans rfl
theorem wX6_reads_12 {ret F n h} {v0 v1 v2 v3 st} : eX6_reads ret F (n + 1) 12 [v0, v1, v2, v3] (st) h 0 0 = (eX6_reads ret F n 13 [v0, v1, v2, v3] (.int (nI 0) :: st) h 0 0) := (amWp_dec rfl dX6_reads_12 rfl).trans rfl
theorem wX6_reads_13 {ret F n h} {v0 v1 v2 v3 st y x a} : eX6_reads ret F (n + 1) 13 [v0, v1, v2, v3] (.int y :: .int x :: .ref a :: st) h 0 0 = ((h.1 a).1 = 1 ∧ vp_in x (h.1 a).2 ∧ amN0 ≤ a ∧ eX6_reads ret F n 14 [v0, v1, v2, v3] (st) (amSI h (amU h.2.1 a x.toNatClampNeg y)) 0 0) := (amWp_dec rfl dX6_reads_13 rfl).trans rfl
theorem wX6_reads_14 {ret F n h} {v0 v1 v2 v3 st} : eX6_reads ret F (n + 1) 14 [v0, v1, v2, v3] (st) h 0 0 = (amIsR v0 ∧ eX6_reads ret F n 15 [v0, v1, v2, v3] (v0 :: st) h 0 0) := (amWp_dec rfl dX6_reads_14 rfl).trans rfl
theorem wX6_reads_15 {ret F n h} {v0 v1 v2 v3 a} : eX6_reads ret F (n + 1) 15 [v0, v1, v2, v3] (.ref a :: []) h 0 0 = (h.1 a = (0, 6) ∧ eX6_reads ret F n 18 [v0, v1, v2, v3] (va_rf (h.2.2.2.1 a 17) :: []) h 0 0) := (amWp_dec rfl dX6_reads_15 rfl).trans (amS4 (Nat.le_of_ble_eq_true rfl) (Nat.le_of_ble_eq_true rfl) (Nat.le_of_ble_eq_true rfl) (Nat.le_of_ble_eq_true rfl))
theorem wX6_reads_18 {ret F n h} {v0 v2 v3 st x} : eX6_reads ret F (n + 1) 18 [v0, .int x, v2, v3] (st) h 0 0 = (eX6_reads ret F n 19 [v0, .int x, v2, v3] (.int x :: st) h 0 0) := (amWp_dec rfl dX6_reads_18 rfl).trans rfl
theorem wX6_reads_19 {ret F n h} {v0 v1 v2 v3 st} : eX6_reads ret F (n + 1) 19 [v0, v1, v2, v3] (st) h 0 0 = (eX6_reads ret F n 20 [v0, v1, v2, v3] (.int (nI 0) :: st) h 0 0) := (amWp_dec rfl dX6_reads_19 rfl).trans rfl
theorem wX6_reads_20 {ret F n h} {v0 v1 v2 v3 st y x a} : eX6_reads ret F (n + 1) 20 [v0, v1, v2, v3] (.int y :: .int x :: .ref a :: st) h 0 0 = ((h.1 a).1 = 1 ∧ vp_in x (h.1 a).2 ∧ amN0 ≤ a ∧ eX6_reads ret F n 21 [v0, v1, v2, v3] (st) (amSI h (amU h.2.1 a x.toNatClampNeg y)) 0 0) := (amWp_dec rfl dX6_reads_20 rfl).trans rfl
theorem wX6_reads_21 {ret F n h} {v0 v1 v2 v3 st} : eX6_reads ret F (n + 1) 21 [v0, v1, v2, v3] (st) h 0 0 = (amIsR v0 ∧ eX6_reads ret F n 22 [v0, v1, v2, v3] (v0 :: st) h 0 0) := (amWp_dec rfl dX6_reads_21 rfl).trans rfl
theorem wX6_reads_22 {ret F n h} {v0 v1 v2 v3 a} : eX6_reads ret F (n + 1) 22 [v0, v1, v2, v3] (.ref a :: []) h 0 0 = (h.1 a = (0, 6) ∧ eX6_reads ret F n 25 [v0, v1, v2, v3] (va_rf (h.2.2.2.1 a 18) :: []) h 0 0) := (amWp_dec rfl dX6_reads_22 rfl).trans (amS4 (Nat.le_of_ble_eq_true rfl) (Nat.le_of_ble_eq_true rfl) (Nat.le_of_ble_eq_true rfl) (Nat.le_of_ble_eq_true rfl))
theorem wX6_reads_25 {ret F n h} {v0 v2 v3 st x} : eX6_reads ret F (n + 1) 25 [v0, .int x, v2, v3] (st) h 0 0 = (eX6_reads ret F n 26 [v0, .int x, v2, v3] (.int x :: st) h 0 0) := (amWp_dec rfl dX6_reads_25 rfl).trans rfl
theorem wX6_reads_26 {ret F n h} {v0 v1 v2 v3 st} : eX6_reads ret F (n + 1) 26 [v0, v1, v2, v3] (st) h 0 0 = (eX6_reads ret F n 27 [v0, v1, v2, v3] (.int (nI 0) :: st) h 0 0) := (amWp_dec rfl dX6_reads_26 rfl).trans rfl
theorem wX6_reads_27 {ret F n h} {v0 v1 v2 v3 st y x a} : eX6_reads ret F (n + 1) 27 [v0, v1, v2, v3] (.int y :: .int x :: .ref a :: st) h 0 0 = ((h.1 a).1 = 1 ∧ vp_in x (h.1 a).2 ∧ amN0 ≤ a ∧ eX6_reads ret F n 28 [v0, v1, v2, v3] (st) (amSI h (amU h.2.1 a x.toNatClampNeg y)) 0 0) := (amWp_dec rfl dX6_reads_27 rfl).trans rfl
theorem wX6_reads_28 {ret F n h} {v0 v1 v2 v3 st} : eX6_reads ret F (n + 1) 28 [v0, v1, v2, v3] (st) h 0 0 = (eX6_reads ret F n 29 [v0, v1, v2, v3] (.int (nI 0) :: st) h 0 0) := (amWp_dec rfl dX6_reads_28 rfl).trans rfl
theorem wX6_reads_29 {ret F n h} {v0 v1 v2 v3 st x} : eX6_reads ret F (n + 1) 29 [v0, v1, v2, v3] (.int x :: st) h 0 0 = (eX6_reads ret F n 30 [v0, v1, amClr v2, .int x] (st) h 0 0) := (amWp_dec rfl dX6_reads_29 rfl).trans (amTrue (Nat.le_of_ble_eq_true rfl))
theorem wX6_reads_30 {ret F n ls st h k z} : eX6_reads ret F (n + 1) 30 ls st h k z = F 30 ls st h k z := amWp_cut rfl
theorem uX6_reads_30 {ret F n h} {v0 v1 v2 st x} : sX6_reads ret F n 30 [v0, v1, v2, .int x] (st) h 0 0 = (eX6_reads ret F n 31 [v0, v1, v2, .int x] (.int x :: st) h 0 0) := (amWs_dec dX6_reads_30 rfl).trans rfl
theorem wX6_reads_31 {ret F n h} {v0 v1 v2 v3 st} : eX6_reads ret F (n + 1) 31 [v0, v1, v2, v3] (st) h 0 0 = (eX6_reads ret F n 33 [v0, v1, v2, v3] (.int (nI 20) :: st) h 0 0) := (amWp_dec rfl dX6_reads_31 rfl).trans rfl
theorem wX6_reads_33 {ret F n h} {v0 v1 v2 v3 st y x} : eX6_reads ret F (n + 1) 33 [v0, v1, v2, v3] (.int y :: .int x :: st) h 0 0 = ((y ≤ x → eX6_reads ret F n 220 [v0, v1, v2, v3] (st) h 0 0) ∧ (¬ y ≤ x → eX6_reads ret F n 36 [v0, v1, v2, v3] (st) h 0 0)) := (amWp_dec rfl dX6_reads_33 rfl).trans rfl
theorem wX6_reads_36 {ret F n h} {v0 v1 v3 st x} : eX6_reads ret F (n + 1) 36 [v0, v1, .int x, v3] (st) h 0 0 = (eX6_reads ret F n 37 [v0, v1, .int x, v3] (.int x :: st) h 0 0) := (amWp_dec rfl dX6_reads_36 rfl).trans rfl
theorem wX6_reads_37 {ret F n h} {v0 v1 v2 v3 st} : eX6_reads ret F (n + 1) 37 [v0, v1, v2, v3] (st) h 0 0 = (amIsR v0 ∧ eX6_reads ret F n 38 [v0, v1, v2, v3] (v0 :: st) h 0 0) := (amWp_dec rfl dX6_reads_37 rfl).trans rfl
theorem wX6_reads_38 {ret F n h} {v0 v1 v2 v3 r0 a} : eX6_reads ret F (n + 1) 38 [v0, v1, v2, v3] (.ref a :: r0 :: []) h 0 0 = (h.1 a = (0, 6) ∧ eX6_reads ret F n 41 [v0, v1, v2, v3] (va_rf (h.2.2.2.1 a 0) :: r0 :: []) h 0 0) := (amWp_dec rfl dX6_reads_38 rfl).trans (amS4 (Nat.le_of_ble_eq_true rfl) (Nat.le_of_ble_eq_true rfl) (Nat.le_of_ble_eq_true rfl) (Nat.le_of_ble_eq_true rfl))
theorem wX6_reads_41 {ret F n h} {v0 v1 v2 v3 st} : eX6_reads ret F (n + 1) 41 [v0, v1, v2, v3] (st) h 0 0 = (eX6_reads ret F n 42 [v0, v1, v2, v3] (.int (nI 1) :: st) h 0 0) := (amWp_dec rfl dX6_reads_41 rfl).trans rfl
theorem wX6_reads_42 {ret F n h} {v0 v1 v2 v3 st x a} : eX6_reads ret F (n + 1) 42 [v0, v1, v2, v3] (.int x :: .ref a :: st) h 0 0 = ((h.1 a).1 = 1 ∧ vp_in x (h.1 a).2 ∧ eX6_reads ret F n 43 [v0, v1, v2, v3] (.int (h.2.1 a x.toNatClampNeg) :: st) h 0 0) := (amWp_dec rfl dX6_reads_42 rfl).trans rfl
theorem wX6_reads_43 {ret F n h} {v0 v1 v2 v3 st} : eX6_reads ret F (n + 1) 43 [v0, v1, v2, v3] (st) h 0 0 = (eX6_reads ret F n 44 [v0, v1, v2, v3] (.int (-1) :: st) h 0 0) := (amWp_dec rfl dX6_reads_43 rfl).trans rfl
theorem wX6_reads_44 {ret F n h} {v0 v1 v2 v3 st y x} : eX6_reads ret F (n + 1) 44 [v0, v1, v2, v3] (.int y :: .int x :: st) h 0 0 = (eX6_reads ret F n 45 [v0, v1, v2, v3] (.int (x ^^^ y) :: st) h 0 0) := (amWp_dec rfl dX6_reads_44 rfl).trans rfl
theorem wX6_reads_45 {ret F n h} {v0 v1 v2 v3 st y x} : eX6_reads ret F (n + 1) 45 [v0, v1, v2, v3] (.int y :: .int x :: st) h 0 0 = (eX6_reads ret F n 46 [v0, v1, v2, v3] (.int (x &&& y) :: st) h 0 0) := (amWp_dec rfl dX6_reads_45 rfl).trans rfl
theorem wX6_reads_46 {ret F n h} {v0 v1 v2 st x} : eX6_reads ret F (n + 1) 46 [v0, v1, v2, .int x] (st) h 0 0 = (eX6_reads ret F n 47 [v0, v1, v2, .int x] (.int x :: st) h 0 0) := (amWp_dec rfl dX6_reads_46 rfl).trans rfl
theorem wX6_reads_47 {ret F n h} {v0 v1 v2 v3 x1 x0} : eX6_reads ret F (n + 1) 47 [v0, v1, v2, v3] (.int x1 :: .int x0 :: []) h 0 0 = (tX6_has [.int x0, .int x1] h (fun v h => eX6_reads ret F n 50 [v0, v1, v2, v3] (v.toList ++ ([])) h 0 0)) := (amWp_dec rfl dX6_reads_47 rfl).trans (amS4 (Nat.le_of_ble_eq_true rfl) (Nat.le_of_ble_eq_true rfl) (Nat.le_of_ble_eq_true rfl) (Nat.le_of_ble_eq_true rfl))
theorem wX6_reads_50 {ret F n h} {v0 v1 v2 v3 st x} : eX6_reads ret F (n + 1) 50 [v0, v1, v2, v3] (.int x :: st) h 0 0 = ((x = 0 → eX6_reads ret F n 140 [v0, v1, v2, v3] (st) h 0 0) ∧ (¬ x = 0 → eX6_reads ret F n 53 [v0, v1, v2, v3] (st) h 0 0)) := (amWp_dec rfl dX6_reads_50 rfl).trans rfl
theorem wX6_reads_53 {ret F n h} {v0 v1 v2 v3 st} : eX6_reads ret F (n + 1) 53 [v0, v1, v2, v3] (st) h 0 0 = (amIsR v0 ∧ eX6_reads ret F n 54 [v0, v1, v2, v3] (v0 :: st) h 0 0) := (amWp_dec rfl dX6_reads_53 rfl).trans rfl
theorem wX6_reads_54 {ret F n h} {v0 v1 v2 v3 a} : eX6_reads ret F (n + 1) 54 [v0, v1, v2, v3] (.ref a :: []) h 0 0 = (h.1 a = (0, 6) ∧ eX6_reads ret F n 57 [v0, v1, v2, v3] (va_rf (h.2.2.2.1 a 15) :: []) h 0 0) := (amWp_dec rfl dX6_reads_54 rfl).trans (amS4 (Nat.le_of_ble_eq_true rfl) (Nat.le_of_ble_eq_true rfl) (Nat.le_of_ble_eq_true rfl) (Nat.le_of_ble_eq_true rfl))
theorem wX6_reads_57 {ret F n h} {v0 v2 v3 st x} : eX6_reads ret F (n + 1) 57 [v0, .int x, v2, v3] (st) h 0 0 = (eX6_reads ret F n 58 [v0, .int x, v2, v3] (.int x :: st) h 0 0) := (amWp_dec rfl dX6_reads_57 rfl).trans rfl
theorem wX6_reads_58 {ret F n h} {v0 v1 v2 v3 st x a} : eX6_reads ret F (n + 1) 58 [v0, v1, v2, v3] (.int x :: .ref a :: st) h 0 0 = (eX6_reads ret F n 59 [v0, v1, v2, v3] (.int x :: .ref a :: .int x :: .ref a :: st) h 0 0) := (amWp_dec rfl dX6_reads_58 rfl).trans (amS2 rfl rfl)
theorem wX6_reads_59 {ret F n h} {v0 v1 v2 v3 st x a} : eX6_reads ret F (n + 1) 59 [v0, v1, v2, v3] (.int x :: .ref a :: st) h 0 0 = ((h.1 a).1 = 1 ∧ vp_in x (h.1 a).2 ∧ eX6_reads ret F n 60 [v0, v1, v2, v3] (.int (h.2.1 a x.toNatClampNeg) :: st) h 0 0) := (amWp_dec rfl dX6_reads_59 rfl).trans rfl
theorem wX6_reads_60 {ret F n h} {v0 v1 v2 v3 st} : eX6_reads ret F (n + 1) 60 [v0, v1, v2, v3] (st) h 0 0 = (amIsR v0 ∧ eX6_reads ret F n 61 [v0, v1, v2, v3] (v0 :: st) h 0 0) := (amWp_dec rfl dX6_reads_60 rfl).trans rfl
theorem wX6_reads_61 {ret F n h} {v0 v1 v2 v3 r0 r1 r2 a} : eX6_reads ret F (n + 1) 61 [v0, v1, v2, v3] (.ref a :: r0 :: r1 :: r2 :: []) h 0 0 = (h.1 a = (0, 6) ∧ eX6_reads ret F n 64 [v0, v1, v2, v3] (va_rf (h.2.2.2.1 a 13) :: r0 :: r1 :: r2 :: []) h 0 0) := (amWp_dec rfl dX6_reads_61 rfl).trans (amS4 (Nat.le_of_ble_eq_true rfl) (Nat.le_of_ble_eq_true rfl) (Nat.le_of_ble_eq_true rfl) (Nat.le_of_ble_eq_true rfl))
theorem wX6_reads_64 {ret F n h} {v0 v1 v2 st x} : eX6_reads ret F (n + 1) 64 [v0, v1, v2, .int x] (st) h 0 0 = (eX6_reads ret F n 65 [v0, v1, v2, .int x] (.int x :: st) h 0 0) := (amWp_dec rfl dX6_reads_64 rfl).trans rfl
theorem wX6_reads_65 {ret F n h} {v0 v1 v2 v3 st x a} : eX6_reads ret F (n + 1) 65 [v0, v1, v2, v3] (.int x :: .ref a :: st) h 0 0 = ((h.1 a).1 = 1 ∧ vp_in x (h.1 a).2 ∧ eX6_reads ret F n 66 [v0, v1, v2, v3] (.int (h.2.1 a x.toNatClampNeg) :: st) h 0 0) := (amWp_dec rfl dX6_reads_65 rfl).trans rfl
theorem wX6_reads_66 {ret F n h} {v0 v1 v2 v3 st x} : eX6_reads ret F (n + 1) 66 [v0, v1, v2, v3] (.int x :: st) h 0 0 = ((¬ x = 0 → eX6_reads ret F n 75 [v0, v1, v2, v3] (st) h 0 0) ∧ (x = 0 → eX6_reads ret F n 69 [v0, v1, v2, v3] (st) h 0 0)) := (amWp_dec rfl dX6_reads_66 rfl).trans rfl
theorem wX6_reads_69 {ret F n h} {v0 v1 v2 v3 st} : eX6_reads ret F (n + 1) 69 [v0, v1, v2, v3] (st) h 0 0 = (eX6_reads ret F n 70 [v0, v1, v2, v3] (.int (nI 1) :: st) h 0 0) := (amWp_dec rfl dX6_reads_69 rfl).trans rfl
theorem wX6_reads_70 {ret F n h} {v0 v1 v2 st x} : eX6_reads ret F (n + 1) 70 [v0, v1, v2, .int x] (st) h 0 0 = (eX6_reads ret F n 71 [v0, v1, v2, .int x] (.int x :: st) h 0 0) := (amWp_dec rfl dX6_reads_70 rfl).trans rfl
theorem wX6_reads_71 {ret F n h} {v0 v1 v2 v3 st y x} : eX6_reads ret F (n + 1) 71 [v0, v1, v2, v3] (.int y :: .int x :: st) h 0 0 = (eX6_reads ret F n 72 [v0, v1, v2, v3] (.int (x <<< (y &&& 31)) :: st) h 0 0) := (amWp_dec rfl dX6_reads_71 rfl).trans rfl
theorem wX6_reads_72 {ret F n h} {v0 v1 v2 v3 st} : eX6_reads ret F (n + 1) 72 [v0, v1, v2, v3] (st) h 0 0 = (eX6_reads ret F n 76 [v0, v1, v2, v3] (st) h 0 0) := (amWp_dec rfl dX6_reads_72 rfl).trans rfl
theorem wX6_reads_75 {ret F n h} {v0 v1 v2 v3 st} : eX6_reads ret F (n + 1) 75 [v0, v1, v2, v3] (st) h 0 0 = (eX6_reads ret F n 76 [v0, v1, v2, v3] (.int (nI 0) :: st) h 0 0) := (amWp_dec rfl dX6_reads_75 rfl).trans rfl
theorem wX6_reads_76 {ret F n h} {v0 v1 v2 v3 st y x} : eX6_reads ret F (n + 1) 76 [v0, v1, v2, v3] (.int y :: .int x :: st) h 0 0 = (eX6_reads ret F n 77 [v0, v1, v2, v3] (.int (x ||| y) :: st) h 0 0) := (amWp_dec rfl dX6_reads_76 rfl).trans rfl
theorem wX6_reads_77 {ret F n h} {v0 v1 v2 v3 st y x a} : eX6_reads ret F (n + 1) 77 [v0, v1, v2, v3] (.int y :: .int x :: .ref a :: st) h 0 0 = ((h.1 a).1 = 1 ∧ vp_in x (h.1 a).2 ∧ amN0 ≤ a ∧ eX6_reads ret F n 78 [v0, v1, v2, v3] (st) (amSI h (amU h.2.1 a x.toNatClampNeg y)) 0 0) := (amWp_dec rfl dX6_reads_77 rfl).trans rfl
theorem wX6_reads_78 {ret F n h} {v0 v1 v2 v3 st} : eX6_reads ret F (n + 1) 78 [v0, v1, v2, v3] (st) h 0 0 = (amIsR v0 ∧ eX6_reads ret F n 79 [v0, v1, v2, v3] (v0 :: st) h 0 0) := (amWp_dec rfl dX6_reads_78 rfl).trans rfl
theorem wX6_reads_79 {ret F n h} {v0 v1 v2 v3 a} : eX6_reads ret F (n + 1) 79 [v0, v1, v2, v3] (.ref a :: []) h 0 0 = (h.1 a = (0, 6) ∧ eX6_reads ret F n 82 [v0, v1, v2, v3] (va_rf (h.2.2.2.1 a 16) :: []) h 0 0) := (amWp_dec rfl dX6_reads_79 rfl).trans (amS4 (Nat.le_of_ble_eq_true rfl) (Nat.le_of_ble_eq_true rfl) (Nat.le_of_ble_eq_true rfl) (Nat.le_of_ble_eq_true rfl))
theorem wX6_reads_82 {ret F n h} {v0 v2 v3 st x} : eX6_reads ret F (n + 1) 82 [v0, .int x, v2, v3] (st) h 0 0 = (eX6_reads ret F n 83 [v0, .int x, v2, v3] (.int x :: st) h 0 0) := (amWp_dec rfl dX6_reads_82 rfl).trans rfl
theorem wX6_reads_83 {ret F n h} {v0 v1 v2 v3 st x a} : eX6_reads ret F (n + 1) 83 [v0, v1, v2, v3] (.int x :: .ref a :: st) h 0 0 = (eX6_reads ret F n 84 [v0, v1, v2, v3] (.int x :: .ref a :: .int x :: .ref a :: st) h 0 0) := (amWp_dec rfl dX6_reads_83 rfl).trans (amS2 rfl rfl)
theorem wX6_reads_84 {ret F n h} {v0 v1 v2 v3 st x a} : eX6_reads ret F (n + 1) 84 [v0, v1, v2, v3] (.int x :: .ref a :: st) h 0 0 = ((h.1 a).1 = 1 ∧ vp_in x (h.1 a).2 ∧ eX6_reads ret F n 85 [v0, v1, v2, v3] (.int (h.2.1 a x.toNatClampNeg) :: st) h 0 0) := (amWp_dec rfl dX6_reads_84 rfl).trans rfl
theorem wX6_reads_85 {ret F n h} {v0 v1 v2 v3 st} : eX6_reads ret F (n + 1) 85 [v0, v1, v2, v3] (st) h 0 0 = (amIsR v0 ∧ eX6_reads ret F n 86 [v0, v1, v2, v3] (v0 :: st) h 0 0) := (amWp_dec rfl dX6_reads_85 rfl).trans rfl
theorem wX6_reads_86 {ret F n h} {v0 v1 v2 v3 r0 r1 r2 a} : eX6_reads ret F (n + 1) 86 [v0, v1, v2, v3] (.ref a :: r0 :: r1 :: r2 :: []) h 0 0 = (h.1 a = (0, 6) ∧ eX6_reads ret F n 89 [v0, v1, v2, v3] (va_rf (h.2.2.2.1 a 13) :: r0 :: r1 :: r2 :: []) h 0 0) := (amWp_dec rfl dX6_reads_86 rfl).trans (amS4 (Nat.le_of_ble_eq_true rfl) (Nat.le_of_ble_eq_true rfl) (Nat.le_of_ble_eq_true rfl) (Nat.le_of_ble_eq_true rfl))
theorem wX6_reads_89 {ret F n h} {v0 v1 v2 st x} : eX6_reads ret F (n + 1) 89 [v0, v1, v2, .int x] (st) h 0 0 = (eX6_reads ret F n 90 [v0, v1, v2, .int x] (.int x :: st) h 0 0) := (amWp_dec rfl dX6_reads_89 rfl).trans rfl
theorem wX6_reads_90 {ret F n h} {v0 v1 v2 v3 st x a} : eX6_reads ret F (n + 1) 90 [v0, v1, v2, v3] (.int x :: .ref a :: st) h 0 0 = ((h.1 a).1 = 1 ∧ vp_in x (h.1 a).2 ∧ eX6_reads ret F n 91 [v0, v1, v2, v3] (.int (h.2.1 a x.toNatClampNeg) :: st) h 0 0) := (amWp_dec rfl dX6_reads_90 rfl).trans rfl
theorem wX6_reads_91 {ret F n h} {v0 v1 v2 v3 st x} : eX6_reads ret F (n + 1) 91 [v0, v1, v2, v3] (.int x :: st) h 0 0 = ((x ≤ 0 → eX6_reads ret F n 100 [v0, v1, v2, v3] (st) h 0 0) ∧ (¬ x ≤ 0 → eX6_reads ret F n 94 [v0, v1, v2, v3] (st) h 0 0)) := (amWp_dec rfl dX6_reads_91 rfl).trans rfl
theorem wX6_reads_94 {ret F n h} {v0 v1 v2 v3 st} : eX6_reads ret F (n + 1) 94 [v0, v1, v2, v3] (st) h 0 0 = (eX6_reads ret F n 95 [v0, v1, v2, v3] (.int (nI 1) :: st) h 0 0) := (amWp_dec rfl dX6_reads_94 rfl).trans rfl
theorem wX6_reads_95 {ret F n h} {v0 v1 v2 st x} : eX6_reads ret F (n + 1) 95 [v0, v1, v2, .int x] (st) h 0 0 = (eX6_reads ret F n 96 [v0, v1, v2, .int x] (.int x :: st) h 0 0) := (amWp_dec rfl dX6_reads_95 rfl).trans rfl
theorem wX6_reads_96 {ret F n h} {v0 v1 v2 v3 st y x} : eX6_reads ret F (n + 1) 96 [v0, v1, v2, v3] (.int y :: .int x :: st) h 0 0 = (eX6_reads ret F n 97 [v0, v1, v2, v3] (.int (x <<< (y &&& 31)) :: st) h 0 0) := (amWp_dec rfl dX6_reads_96 rfl).trans rfl
theorem wX6_reads_97 {ret F n h} {v0 v1 v2 v3 st} : eX6_reads ret F (n + 1) 97 [v0, v1, v2, v3] (st) h 0 0 = (eX6_reads ret F n 101 [v0, v1, v2, v3] (st) h 0 0) := (amWp_dec rfl dX6_reads_97 rfl).trans rfl
theorem wX6_reads_100 {ret F n h} {v0 v1 v2 v3 st} : eX6_reads ret F (n + 1) 100 [v0, v1, v2, v3] (st) h 0 0 = (eX6_reads ret F n 101 [v0, v1, v2, v3] (.int (nI 0) :: st) h 0 0) := (amWp_dec rfl dX6_reads_100 rfl).trans rfl
theorem wX6_reads_101 {ret F n h} {v0 v1 v2 v3 st y x} : eX6_reads ret F (n + 1) 101 [v0, v1, v2, v3] (.int y :: .int x :: st) h 0 0 = (eX6_reads ret F n 102 [v0, v1, v2, v3] (.int (x ||| y) :: st) h 0 0) := (amWp_dec rfl dX6_reads_101 rfl).trans rfl
theorem wX6_reads_102 {ret F n h} {v0 v1 v2 v3 st y x a} : eX6_reads ret F (n + 1) 102 [v0, v1, v2, v3] (.int y :: .int x :: .ref a :: st) h 0 0 = ((h.1 a).1 = 1 ∧ vp_in x (h.1 a).2 ∧ amN0 ≤ a ∧ eX6_reads ret F n 103 [v0, v1, v2, v3] (st) (amSI h (amU h.2.1 a x.toNatClampNeg y)) 0 0) := (amWp_dec rfl dX6_reads_102 rfl).trans rfl
theorem wX6_reads_103 {ret F n h} {v0 v1 v2 v3 st} : eX6_reads ret F (n + 1) 103 [v0, v1, v2, v3] (st) h 0 0 = (amIsR v0 ∧ eX6_reads ret F n 104 [v0, v1, v2, v3] (v0 :: st) h 0 0) := (amWp_dec rfl dX6_reads_103 rfl).trans rfl
theorem wX6_reads_104 {ret F n h} {v0 v1 v2 v3 a} : eX6_reads ret F (n + 1) 104 [v0, v1, v2, v3] (.ref a :: []) h 0 0 = (h.1 a = (0, 6) ∧ eX6_reads ret F n 107 [v0, v1, v2, v3] (va_rf (h.2.2.2.1 a 13) :: []) h 0 0) := (amWp_dec rfl dX6_reads_104 rfl).trans (amS4 (Nat.le_of_ble_eq_true rfl) (Nat.le_of_ble_eq_true rfl) (Nat.le_of_ble_eq_true rfl) (Nat.le_of_ble_eq_true rfl))
theorem wX6_reads_107 {ret F n h} {v0 v1 v2 st x} : eX6_reads ret F (n + 1) 107 [v0, v1, v2, .int x] (st) h 0 0 = (eX6_reads ret F n 108 [v0, v1, v2, .int x] (.int x :: st) h 0 0) := (amWp_dec rfl dX6_reads_107 rfl).trans rfl
theorem wX6_reads_108 {ret F n h} {v0 v1 v2 v3 st} : eX6_reads ret F (n + 1) 108 [v0, v1, v2, v3] (st) h 0 0 = (amIsR v0 ∧ eX6_reads ret F n 109 [v0, v1, v2, v3] (v0 :: st) h 0 0) := (amWp_dec rfl dX6_reads_108 rfl).trans rfl
theorem wX6_reads_109 {ret F n h} {v0 v1 v2 v3 r0 r1 a} : eX6_reads ret F (n + 1) 109 [v0, v1, v2, v3] (.ref a :: r0 :: r1 :: []) h 0 0 = (h.1 a = (0, 6) ∧ eX6_reads ret F n 112 [v0, v1, v2, v3] (va_rf (h.2.2.2.1 a 13) :: r0 :: r1 :: []) h 0 0) := (amWp_dec rfl dX6_reads_109 rfl).trans (amS4 (Nat.le_of_ble_eq_true rfl) (Nat.le_of_ble_eq_true rfl) (Nat.le_of_ble_eq_true rfl) (Nat.le_of_ble_eq_true rfl))
theorem wX6_reads_112 {ret F n h} {v0 v1 v2 st x} : eX6_reads ret F (n + 1) 112 [v0, v1, v2, .int x] (st) h 0 0 = (eX6_reads ret F n 113 [v0, v1, v2, .int x] (.int x :: st) h 0 0) := (amWp_dec rfl dX6_reads_112 rfl).trans rfl
theorem wX6_reads_113 {ret F n h} {v0 v1 v2 v3 st x a} : eX6_reads ret F (n + 1) 113 [v0, v1, v2, v3] (.int x :: .ref a :: st) h 0 0 = ((h.1 a).1 = 1 ∧ vp_in x (h.1 a).2 ∧ eX6_reads ret F n 114 [v0, v1, v2, v3] (.int (h.2.1 a x.toNatClampNeg) :: st) h 0 0) := (amWp_dec rfl dX6_reads_113 rfl).trans rfl
theorem wX6_reads_114 {ret F n h} {v0 v1 v2 v3 st} : eX6_reads ret F (n + 1) 114 [v0, v1, v2, v3] (st) h 0 0 = (eX6_reads ret F n 116 [v0, v1, v2, v3] (.int (nI 9) :: st) h 0 0) := (amWp_dec rfl dX6_reads_114 rfl).trans rfl
theorem wX6_reads_116 {ret F n h} {v0 v1 v2 v3 st y x} : eX6_reads ret F (n + 1) 116 [v0, v1, v2, v3] (.int y :: .int x :: st) h 0 0 = ((¬ x = y → eX6_reads ret F n 124 [v0, v1, v2, v3] (st) h 0 0) ∧ (x = y → eX6_reads ret F n 119 [v0, v1, v2, v3] (st) h 0 0)) := (amWp_dec rfl dX6_reads_116 rfl).trans rfl
theorem wX6_reads_119 {ret F n h} {v0 v1 v2 v3 st} : eX6_reads ret F (n + 1) 119 [v0, v1, v2, v3] (st) h 0 0 = (eX6_reads ret F n 121 [v0, v1, v2, v3] (.int (nI 9) :: st) h 0 0) := (amWp_dec rfl dX6_reads_119 rfl).trans rfl
theorem wX6_reads_121 {ret F n h} {v0 v1 v2 v3 st} : eX6_reads ret F (n + 1) 121 [v0, v1, v2, v3] (st) h 0 0 = (eX6_reads ret F n 132 [v0, v1, v2, v3] (st) h 0 0) := (amWp_dec rfl dX6_reads_121 rfl).trans rfl
theorem wX6_reads_124 {ret F n h} {v0 v1 v2 v3 st} : eX6_reads ret F (n + 1) 124 [v0, v1, v2, v3] (st) h 0 0 = (amIsR v0 ∧ eX6_reads ret F n 125 [v0, v1, v2, v3] (v0 :: st) h 0 0) := (amWp_dec rfl dX6_reads_124 rfl).trans rfl
theorem wX6_reads_125 {ret F n h} {v0 v1 v2 v3 r0 r1 a} : eX6_reads ret F (n + 1) 125 [v0, v1, v2, v3] (.ref a :: r0 :: r1 :: []) h 0 0 = (h.1 a = (0, 6) ∧ eX6_reads ret F n 128 [v0, v1, v2, v3] (va_rf (h.2.2.2.1 a 13) :: r0 :: r1 :: []) h 0 0) := (amWp_dec rfl dX6_reads_125 rfl).trans (amS4 (Nat.le_of_ble_eq_true rfl) (Nat.le_of_ble_eq_true rfl) (Nat.le_of_ble_eq_true rfl) (Nat.le_of_ble_eq_true rfl))
theorem wX6_reads_128 {ret F n h} {v0 v1 v2 st x} : eX6_reads ret F (n + 1) 128 [v0, v1, v2, .int x] (st) h 0 0 = (eX6_reads ret F n 129 [v0, v1, v2, .int x] (.int x :: st) h 0 0) := (amWp_dec rfl dX6_reads_128 rfl).trans rfl
theorem wX6_reads_129 {ret F n h} {v0 v1 v2 v3 st x a} : eX6_reads ret F (n + 1) 129 [v0, v1, v2, v3] (.int x :: .ref a :: st) h 0 0 = ((h.1 a).1 = 1 ∧ vp_in x (h.1 a).2 ∧ eX6_reads ret F n 130 [v0, v1, v2, v3] (.int (h.2.1 a x.toNatClampNeg) :: st) h 0 0) := (amWp_dec rfl dX6_reads_129 rfl).trans rfl
theorem wX6_reads_130 {ret F n h} {v0 v1 v2 v3 st} : eX6_reads ret F (n + 1) 130 [v0, v1, v2, v3] (st) h 0 0 = (eX6_reads ret F n 131 [v0, v1, v2, v3] (.int (nI 1) :: st) h 0 0) := (amWp_dec rfl dX6_reads_130 rfl).trans rfl
theorem wX6_reads_131 {ret F n h} {v0 v1 v2 v3 st y x} : eX6_reads ret F (n + 1) 131 [v0, v1, v2, v3] (.int y :: .int x :: st) h 0 0 = (eX6_reads ret F n 132 [v0, v1, v2, v3] (.int (x + y) :: st) h 0 0) := (amWp_dec rfl dX6_reads_131 rfl).trans rfl
theorem wX6_reads_132 {ret F n h} {v0 v1 v2 v3 st y x a} : eX6_reads ret F (n + 1) 132 [v0, v1, v2, v3] (.int y :: .int x :: .ref a :: st) h 0 0 = ((h.1 a).1 = 1 ∧ vp_in x (h.1 a).2 ∧ amN0 ≤ a ∧ eX6_reads ret F n 133 [v0, v1, v2, v3] (st) (amSI h (amU h.2.1 a x.toNatClampNeg y)) 0 0) := (amWp_dec rfl dX6_reads_132 rfl).trans rfl
theorem wX6_reads_133 {ret F n h} {v0 v1 v2 v3 st} : eX6_reads ret F (n + 1) 133 [v0, v1, v2, v3] (st) h 0 0 = (amIsR v0 ∧ eX6_reads ret F n 134 [v0, v1, v2, v3] (v0 :: st) h 0 0) := (amWp_dec rfl dX6_reads_133 rfl).trans rfl
theorem wX6_reads_134 {ret F n h} {v0 v1 v2 v3 a} : eX6_reads ret F (n + 1) 134 [v0, v1, v2, v3] (.ref a :: []) h 0 0 = (h.1 a = (0, 6) ∧ eX6_reads ret F n 137 [v0, v1, v2, v3] (va_rf (h.2.2.2.1 a 14) :: []) h 0 0) := (amWp_dec rfl dX6_reads_134 rfl).trans (amS4 (Nat.le_of_ble_eq_true rfl) (Nat.le_of_ble_eq_true rfl) (Nat.le_of_ble_eq_true rfl) (Nat.le_of_ble_eq_true rfl))
theorem wX6_reads_137 {ret F n h} {v0 v1 v2 st x} : eX6_reads ret F (n + 1) 137 [v0, v1, v2, .int x] (st) h 0 0 = (eX6_reads ret F n 138 [v0, v1, v2, .int x] (.int x :: st) h 0 0) := (amWp_dec rfl dX6_reads_137 rfl).trans rfl
theorem wX6_reads_138 {ret F n h} {v0 v2 v3 st x} : eX6_reads ret F (n + 1) 138 [v0, .int x, v2, v3] (st) h 0 0 = (eX6_reads ret F n 139 [v0, .int x, v2, v3] (.int x :: st) h 0 0) := (amWp_dec rfl dX6_reads_138 rfl).trans rfl
theorem wX6_reads_139 {ret F n h} {v0 v1 v2 v3 st y x a} : eX6_reads ret F (n + 1) 139 [v0, v1, v2, v3] (.int y :: .int x :: .ref a :: st) h 0 0 = ((h.1 a).1 = 1 ∧ vp_in x (h.1 a).2 ∧ amN0 ≤ a ∧ eX6_reads ret F n 140 [v0, v1, v2, v3] (st) (amSI h (amU h.2.1 a x.toNatClampNeg y)) 0 0) := (amWp_dec rfl dX6_reads_139 rfl).trans rfl
theorem wX6_reads_140 {ret F n ls st h k z} : eX6_reads ret F (n + 1) 140 ls st h k z = F 140 ls st h k z := amWp_cut rfl
theorem uX6_reads_140 {ret F n h} {v0 v1 v2 v3 st} : sX6_reads ret F n 140 [v0, v1, v2, v3] (st) h 0 0 = (amIsR v0 ∧ eX6_reads ret F n 141 [v0, v1, v2, v3] (v0 :: st) h 0 0) := (amWs_dec dX6_reads_140 rfl).trans rfl
theorem wX6_reads_141 {ret F n h} {v0 v1 v2 v3 a} : eX6_reads ret F (n + 1) 141 [v0, v1, v2, v3] (.ref a :: []) h 0 0 = (h.1 a = (0, 6) ∧ eX6_reads ret F n 144 [v0, v1, v2, v3] (va_rf (h.2.2.2.1 a 13) :: []) h 0 0) := (amWp_dec rfl dX6_reads_141 rfl).trans (amS4 (Nat.le_of_ble_eq_true rfl) (Nat.le_of_ble_eq_true rfl) (Nat.le_of_ble_eq_true rfl) (Nat.le_of_ble_eq_true rfl))
theorem wX6_reads_144 {ret F n h} {v0 v1 v2 st x} : eX6_reads ret F (n + 1) 144 [v0, v1, v2, .int x] (st) h 0 0 = (eX6_reads ret F n 145 [v0, v1, v2, .int x] (.int x :: st) h 0 0) := (amWp_dec rfl dX6_reads_144 rfl).trans rfl
theorem wX6_reads_145 {ret F n h} {v0 v1 v2 v3 st x a} : eX6_reads ret F (n + 1) 145 [v0, v1, v2, v3] (.int x :: .ref a :: st) h 0 0 = ((h.1 a).1 = 1 ∧ vp_in x (h.1 a).2 ∧ eX6_reads ret F n 146 [v0, v1, v2, v3] (.int (h.2.1 a x.toNatClampNeg) :: st) h 0 0) := (amWp_dec rfl dX6_reads_145 rfl).trans rfl
theorem wX6_reads_146 {ret F n h} {v0 v1 v2 v3 st x} : eX6_reads ret F (n + 1) 146 [v0, v1, v2, v3] (.int x :: st) h 0 0 = ((x ≤ 0 → eX6_reads ret F n 189 [v0, v1, v2, v3] (st) h 0 0) ∧ (¬ x ≤ 0 → eX6_reads ret F n 149 [v0, v1, v2, v3] (st) h 0 0)) := (amWp_dec rfl dX6_reads_146 rfl).trans rfl
theorem wX6_reads_149 {ret F n h} {v0 v2 v3 st x} : eX6_reads ret F (n + 1) 149 [v0, .int x, v2, v3] (st) h 0 0 = (eX6_reads ret F n 150 [v0, .int x, v2, v3] (.int x :: st) h 0 0) := (amWp_dec rfl dX6_reads_149 rfl).trans rfl
theorem wX6_reads_150 {ret F n h} {v0 v1 v2 v3 st} : eX6_reads ret F (n + 1) 150 [v0, v1, v2, v3] (st) h 0 0 = (amIsR v0 ∧ eX6_reads ret F n 151 [v0, v1, v2, v3] (v0 :: st) h 0 0) := (amWp_dec rfl dX6_reads_150 rfl).trans rfl
theorem wX6_reads_151 {ret F n h} {v0 v1 v2 v3 r0 a} : eX6_reads ret F (n + 1) 151 [v0, v1, v2, v3] (.ref a :: r0 :: []) h 0 0 = (h.1 a = (0, 6) ∧ eX6_reads ret F n 154 [v0, v1, v2, v3] (va_rf (h.2.2.2.1 a 14) :: r0 :: []) h 0 0) := (amWp_dec rfl dX6_reads_151 rfl).trans (amS4 (Nat.le_of_ble_eq_true rfl) (Nat.le_of_ble_eq_true rfl) (Nat.le_of_ble_eq_true rfl) (Nat.le_of_ble_eq_true rfl))
theorem wX6_reads_154 {ret F n h} {v0 v1 v2 st x} : eX6_reads ret F (n + 1) 154 [v0, v1, v2, .int x] (st) h 0 0 = (eX6_reads ret F n 155 [v0, v1, v2, .int x] (.int x :: st) h 0 0) := (amWp_dec rfl dX6_reads_154 rfl).trans rfl
theorem wX6_reads_155 {ret F n h} {v0 v1 v2 v3 st x a} : eX6_reads ret F (n + 1) 155 [v0, v1, v2, v3] (.int x :: .ref a :: st) h 0 0 = ((h.1 a).1 = 1 ∧ vp_in x (h.1 a).2 ∧ eX6_reads ret F n 156 [v0, v1, v2, v3] (.int (h.2.1 a x.toNatClampNeg) :: st) h 0 0) := (amWp_dec rfl dX6_reads_155 rfl).trans rfl
theorem wX6_reads_156 {ret F n h} {v0 v1 v2 v3 st y x} : eX6_reads ret F (n + 1) 156 [v0, v1, v2, v3] (.int y :: .int x :: st) h 0 0 = (eX6_reads ret F n 157 [v0, v1, v2, v3] (.int (x - y) :: st) h 0 0) := (amWp_dec rfl dX6_reads_156 rfl).trans rfl
theorem wX6_reads_157 {ret F n h} {v0 v1 v2 v3 st} : eX6_reads ret F (n + 1) 157 [v0, v1, v2, v3] (st) h 0 0 = (amIsR v0 ∧ eX6_reads ret F n 158 [v0, v1, v2, v3] (v0 :: st) h 0 0) := (amWp_dec rfl dX6_reads_157 rfl).trans rfl
theorem wX6_reads_158 {ret F n h} {v0 v1 v2 v3 st} : eX6_reads ret F (n + 1) 158 [v0, v1, v2, v3] (st) h 0 0 = (amIsR v0 ∧ eX6_reads ret F n 159 [v0, v1, v2, v3] (v0 :: st) h 0 0) := (amWp_dec rfl dX6_reads_158 rfl).trans rfl
theorem wX6_reads_159 {ret F n h} {v0 v1 v2 v3 r0 r1 a} : eX6_reads ret F (n + 1) 159 [v0, v1, v2, v3] (.ref a :: r0 :: r1 :: []) h 0 0 = (h.1 a = (0, 6) ∧ eX6_reads ret F n 162 [v0, v1, v2, v3] (va_rf (h.2.2.2.1 a 13) :: r0 :: r1 :: []) h 0 0) := (amWp_dec rfl dX6_reads_159 rfl).trans (amS4 (Nat.le_of_ble_eq_true rfl) (Nat.le_of_ble_eq_true rfl) (Nat.le_of_ble_eq_true rfl) (Nat.le_of_ble_eq_true rfl))
theorem wX6_reads_162 {ret F n h} {v0 v1 v2 st x} : eX6_reads ret F (n + 1) 162 [v0, v1, v2, .int x] (st) h 0 0 = (eX6_reads ret F n 163 [v0, v1, v2, .int x] (.int x :: st) h 0 0) := (amWp_dec rfl dX6_reads_162 rfl).trans rfl
theorem wX6_reads_163 {ret F n h} {v0 v1 v2 v3 st x a} : eX6_reads ret F (n + 1) 163 [v0, v1, v2, v3] (.int x :: .ref a :: st) h 0 0 = ((h.1 a).1 = 1 ∧ vp_in x (h.1 a).2 ∧ eX6_reads ret F n 164 [v0, v1, v2, v3] (.int (h.2.1 a x.toNatClampNeg) :: st) h 0 0) := (amWp_dec rfl dX6_reads_163 rfl).trans rfl
theorem wX6_reads_164 {ret F n h} {v0 v1 v2 v3 x1 x0 r0} : eX6_reads ret F (n + 1) 164 [v0, v1, v2, v3] (.int x1 :: .ref x0 :: r0 :: []) h 0 0 = (h.1 x0 = (0, 6) ∧ tX6_lasts [.ref x0, .int x1] h (fun v h => eX6_reads ret F n 167 [v0, v1, v2, v3] (v.toList ++ (r0 :: [])) h 0 0)) := (amWp_dec rfl dX6_reads_164 rfl).trans (amS4 (Nat.le_of_ble_eq_true rfl) (Nat.le_of_ble_eq_true rfl) (Nat.le_of_ble_eq_true rfl) (Nat.le_of_ble_eq_true rfl))
theorem wX6_reads_167 {ret F n h} {v0 v1 v2 v3 st y x} : eX6_reads ret F (n + 1) 167 [v0, v1, v2, v3] (.int y :: .int x :: st) h 0 0 = ((x < y → eX6_reads ret F n 189 [v0, v1, v2, v3] (st) h 0 0) ∧ (¬ x < y → eX6_reads ret F n 170 [v0, v1, v2, v3] (st) h 0 0)) := (amWp_dec rfl dX6_reads_167 rfl).trans rfl
theorem wX6_reads_170 {ret F n h} {v0 v1 v2 v3 st} : eX6_reads ret F (n + 1) 170 [v0, v1, v2, v3] (st) h 0 0 = (amIsR v0 ∧ eX6_reads ret F n 171 [v0, v1, v2, v3] (v0 :: st) h 0 0) := (amWp_dec rfl dX6_reads_170 rfl).trans rfl
theorem wX6_reads_171 {ret F n h} {v0 v1 v2 v3 a} : eX6_reads ret F (n + 1) 171 [v0, v1, v2, v3] (.ref a :: []) h 0 0 = (h.1 a = (0, 6) ∧ eX6_reads ret F n 174 [v0, v1, v2, v3] (va_rf (h.2.2.2.1 a 17) :: []) h 0 0) := (amWp_dec rfl dX6_reads_171 rfl).trans (amS4 (Nat.le_of_ble_eq_true rfl) (Nat.le_of_ble_eq_true rfl) (Nat.le_of_ble_eq_true rfl) (Nat.le_of_ble_eq_true rfl))
theorem wX6_reads_174 {ret F n h} {v0 v2 v3 st x} : eX6_reads ret F (n + 1) 174 [v0, .int x, v2, v3] (st) h 0 0 = (eX6_reads ret F n 175 [v0, .int x, v2, v3] (.int x :: st) h 0 0) := (amWp_dec rfl dX6_reads_174 rfl).trans rfl
theorem wX6_reads_175 {ret F n h} {v0 v1 v2 v3 st x a} : eX6_reads ret F (n + 1) 175 [v0, v1, v2, v3] (.int x :: .ref a :: st) h 0 0 = (eX6_reads ret F n 176 [v0, v1, v2, v3] (.int x :: .ref a :: .int x :: .ref a :: st) h 0 0) := (amWp_dec rfl dX6_reads_175 rfl).trans (amS2 rfl rfl)
theorem wX6_reads_176 {ret F n h} {v0 v1 v2 v3 st x a} : eX6_reads ret F (n + 1) 176 [v0, v1, v2, v3] (.int x :: .ref a :: st) h 0 0 = ((h.1 a).1 = 1 ∧ vp_in x (h.1 a).2 ∧ eX6_reads ret F n 177 [v0, v1, v2, v3] (.int (h.2.1 a x.toNatClampNeg) :: st) h 0 0) := (amWp_dec rfl dX6_reads_176 rfl).trans rfl
theorem wX6_reads_177 {ret F n h} {v0 v1 v2 v3 st} : eX6_reads ret F (n + 1) 177 [v0, v1, v2, v3] (st) h 0 0 = (eX6_reads ret F n 178 [v0, v1, v2, v3] (.int (nI 1) :: st) h 0 0) := (amWp_dec rfl dX6_reads_177 rfl).trans rfl
theorem wX6_reads_178 {ret F n h} {v0 v1 v2 st x} : eX6_reads ret F (n + 1) 178 [v0, v1, v2, .int x] (st) h 0 0 = (eX6_reads ret F n 179 [v0, v1, v2, .int x] (.int x :: st) h 0 0) := (amWp_dec rfl dX6_reads_178 rfl).trans rfl
theorem wX6_reads_179 {ret F n h} {v0 v1 v2 v3 st y x} : eX6_reads ret F (n + 1) 179 [v0, v1, v2, v3] (.int y :: .int x :: st) h 0 0 = (eX6_reads ret F n 180 [v0, v1, v2, v3] (.int (x <<< (y &&& 31)) :: st) h 0 0) := (amWp_dec rfl dX6_reads_179 rfl).trans rfl
theorem wX6_reads_180 {ret F n h} {v0 v1 v2 v3 st y x} : eX6_reads ret F (n + 1) 180 [v0, v1, v2, v3] (.int y :: .int x :: st) h 0 0 = (eX6_reads ret F n 181 [v0, v1, v2, v3] (.int (x ||| y) :: st) h 0 0) := (amWp_dec rfl dX6_reads_180 rfl).trans rfl
theorem wX6_reads_181 {ret F n h} {v0 v1 v2 v3 st y x a} : eX6_reads ret F (n + 1) 181 [v0, v1, v2, v3] (.int y :: .int x :: .ref a :: st) h 0 0 = ((h.1 a).1 = 1 ∧ vp_in x (h.1 a).2 ∧ amN0 ≤ a ∧ eX6_reads ret F n 182 [v0, v1, v2, v3] (st) (amSI h (amU h.2.1 a x.toNatClampNeg y)) 0 0) := (amWp_dec rfl dX6_reads_181 rfl).trans rfl
theorem wX6_reads_182 {ret F n h} {v0 v1 v2 v3 st} : eX6_reads ret F (n + 1) 182 [v0, v1, v2, v3] (st) h 0 0 = (amIsR v0 ∧ eX6_reads ret F n 183 [v0, v1, v2, v3] (v0 :: st) h 0 0) := (amWp_dec rfl dX6_reads_182 rfl).trans rfl
theorem wX6_reads_183 {ret F n h} {v0 v1 v2 v3 a} : eX6_reads ret F (n + 1) 183 [v0, v1, v2, v3] (.ref a :: []) h 0 0 = (h.1 a = (0, 6) ∧ eX6_reads ret F n 186 [v0, v1, v2, v3] (va_rf (h.2.2.2.1 a 13) :: []) h 0 0) := (amWp_dec rfl dX6_reads_183 rfl).trans (amS4 (Nat.le_of_ble_eq_true rfl) (Nat.le_of_ble_eq_true rfl) (Nat.le_of_ble_eq_true rfl) (Nat.le_of_ble_eq_true rfl))
theorem wX6_reads_186 {ret F n h} {v0 v1 v2 st x} : eX6_reads ret F (n + 1) 186 [v0, v1, v2, .int x] (st) h 0 0 = (eX6_reads ret F n 187 [v0, v1, v2, .int x] (.int x :: st) h 0 0) := (amWp_dec rfl dX6_reads_186 rfl).trans rfl
theorem wX6_reads_187 {ret F n h} {v0 v1 v2 v3 st} : eX6_reads ret F (n + 1) 187 [v0, v1, v2, v3] (st) h 0 0 = (eX6_reads ret F n 188 [v0, v1, v2, v3] (.int (nI 0) :: st) h 0 0) := (amWp_dec rfl dX6_reads_187 rfl).trans rfl
theorem wX6_reads_188 {ret F n h} {v0 v1 v2 v3 st y x a} : eX6_reads ret F (n + 1) 188 [v0, v1, v2, v3] (.int y :: .int x :: .ref a :: st) h 0 0 = ((h.1 a).1 = 1 ∧ vp_in x (h.1 a).2 ∧ amN0 ≤ a ∧ eX6_reads ret F n 189 [v0, v1, v2, v3] (st) (amSI h (amU h.2.1 a x.toNatClampNeg y)) 0 0) := (amWp_dec rfl dX6_reads_188 rfl).trans rfl
theorem wX6_reads_189 {ret F n ls st h k z} : eX6_reads ret F (n + 1) 189 ls st h k z = F 189 ls st h k z := amWp_cut rfl
theorem uX6_reads_189 {ret F n h} {v0 v1 v2 v3 st} : sX6_reads ret F n 189 [v0, v1, v2, v3] (st) h 0 0 = (amIsR v0 ∧ eX6_reads ret F n 190 [v0, v1, v2, v3] (v0 :: st) h 0 0) := (amWs_dec dX6_reads_189 rfl).trans rfl
theorem wX6_reads_190 {ret F n h} {v0 v1 v2 v3 a} : eX6_reads ret F (n + 1) 190 [v0, v1, v2, v3] (.ref a :: []) h 0 0 = (h.1 a = (0, 6) ∧ eX6_reads ret F n 193 [v0, v1, v2, v3] (va_rf (h.2.2.2.1 a 18) :: []) h 0 0) := (amWp_dec rfl dX6_reads_190 rfl).trans (amS4 (Nat.le_of_ble_eq_true rfl) (Nat.le_of_ble_eq_true rfl) (Nat.le_of_ble_eq_true rfl) (Nat.le_of_ble_eq_true rfl))
theorem wX6_reads_193 {ret F n h} {v0 v2 v3 st x} : eX6_reads ret F (n + 1) 193 [v0, .int x, v2, v3] (st) h 0 0 = (eX6_reads ret F n 194 [v0, .int x, v2, v3] (.int x :: st) h 0 0) := (amWp_dec rfl dX6_reads_193 rfl).trans rfl
theorem wX6_reads_194 {ret F n h} {v0 v1 v2 v3 st x a} : eX6_reads ret F (n + 1) 194 [v0, v1, v2, v3] (.int x :: .ref a :: st) h 0 0 = (eX6_reads ret F n 195 [v0, v1, v2, v3] (.int x :: .ref a :: .int x :: .ref a :: st) h 0 0) := (amWp_dec rfl dX6_reads_194 rfl).trans (amS2 rfl rfl)
theorem wX6_reads_195 {ret F n h} {v0 v1 v2 v3 st x a} : eX6_reads ret F (n + 1) 195 [v0, v1, v2, v3] (.int x :: .ref a :: st) h 0 0 = ((h.1 a).1 = 1 ∧ vp_in x (h.1 a).2 ∧ eX6_reads ret F n 196 [v0, v1, v2, v3] (.int (h.2.1 a x.toNatClampNeg) :: st) h 0 0) := (amWp_dec rfl dX6_reads_195 rfl).trans rfl
theorem wX6_reads_196 {ret F n h} {v0 v1 v2 v3 st} : eX6_reads ret F (n + 1) 196 [v0, v1, v2, v3] (st) h 0 0 = (amIsR v0 ∧ eX6_reads ret F n 197 [v0, v1, v2, v3] (v0 :: st) h 0 0) := (amWp_dec rfl dX6_reads_196 rfl).trans rfl
theorem wX6_reads_197 {ret F n h} {v0 v1 v2 v3 r0 r1 r2 a} : eX6_reads ret F (n + 1) 197 [v0, v1, v2, v3] (.ref a :: r0 :: r1 :: r2 :: []) h 0 0 = (h.1 a = (0, 6) ∧ eX6_reads ret F n 200 [v0, v1, v2, v3] (va_rf (h.2.2.2.1 a 13) :: r0 :: r1 :: r2 :: []) h 0 0) := (amWp_dec rfl dX6_reads_197 rfl).trans (amS4 (Nat.le_of_ble_eq_true rfl) (Nat.le_of_ble_eq_true rfl) (Nat.le_of_ble_eq_true rfl) (Nat.le_of_ble_eq_true rfl))
theorem wX6_reads_200 {ret F n h} {v0 v1 v2 st x} : eX6_reads ret F (n + 1) 200 [v0, v1, v2, .int x] (st) h 0 0 = (eX6_reads ret F n 201 [v0, v1, v2, .int x] (.int x :: st) h 0 0) := (amWp_dec rfl dX6_reads_200 rfl).trans rfl
theorem wX6_reads_201 {ret F n h} {v0 v1 v2 v3 st x a} : eX6_reads ret F (n + 1) 201 [v0, v1, v2, v3] (.int x :: .ref a :: st) h 0 0 = ((h.1 a).1 = 1 ∧ vp_in x (h.1 a).2 ∧ eX6_reads ret F n 202 [v0, v1, v2, v3] (.int (h.2.1 a x.toNatClampNeg) :: st) h 0 0) := (amWp_dec rfl dX6_reads_201 rfl).trans rfl
theorem wX6_reads_202 {ret F n h} {v0 v1 v2 v3 st x} : eX6_reads ret F (n + 1) 202 [v0, v1, v2, v3] (.int x :: st) h 0 0 = ((x ≤ 0 → eX6_reads ret F n 211 [v0, v1, v2, v3] (st) h 0 0) ∧ (¬ x ≤ 0 → eX6_reads ret F n 205 [v0, v1, v2, v3] (st) h 0 0)) := (amWp_dec rfl dX6_reads_202 rfl).trans rfl
theorem wX6_reads_205 {ret F n h} {v0 v1 v2 v3 st} : eX6_reads ret F (n + 1) 205 [v0, v1, v2, v3] (st) h 0 0 = (eX6_reads ret F n 206 [v0, v1, v2, v3] (.int (nI 1) :: st) h 0 0) := (amWp_dec rfl dX6_reads_205 rfl).trans rfl
theorem wX6_reads_206 {ret F n h} {v0 v1 v2 st x} : eX6_reads ret F (n + 1) 206 [v0, v1, v2, .int x] (st) h 0 0 = (eX6_reads ret F n 207 [v0, v1, v2, .int x] (.int x :: st) h 0 0) := (amWp_dec rfl dX6_reads_206 rfl).trans rfl
theorem wX6_reads_207 {ret F n h} {v0 v1 v2 v3 st y x} : eX6_reads ret F (n + 1) 207 [v0, v1, v2, v3] (.int y :: .int x :: st) h 0 0 = (eX6_reads ret F n 208 [v0, v1, v2, v3] (.int (x <<< (y &&& 31)) :: st) h 0 0) := (amWp_dec rfl dX6_reads_207 rfl).trans rfl
theorem wX6_reads_208 {ret F n h} {v0 v1 v2 v3 st} : eX6_reads ret F (n + 1) 208 [v0, v1, v2, v3] (st) h 0 0 = (eX6_reads ret F n 212 [v0, v1, v2, v3] (st) h 0 0) := (amWp_dec rfl dX6_reads_208 rfl).trans rfl
theorem wX6_reads_211 {ret F n h} {v0 v1 v2 v3 st} : eX6_reads ret F (n + 1) 211 [v0, v1, v2, v3] (st) h 0 0 = (eX6_reads ret F n 212 [v0, v1, v2, v3] (.int (nI 0) :: st) h 0 0) := (amWp_dec rfl dX6_reads_211 rfl).trans rfl
theorem wX6_reads_212 {ret F n h} {v0 v1 v2 v3 st y x} : eX6_reads ret F (n + 1) 212 [v0, v1, v2, v3] (.int y :: .int x :: st) h 0 0 = (eX6_reads ret F n 213 [v0, v1, v2, v3] (.int (x ||| y) :: st) h 0 0) := (amWp_dec rfl dX6_reads_212 rfl).trans rfl
theorem wX6_reads_213 {ret F n h} {v0 v1 v2 v3 st y x a} : eX6_reads ret F (n + 1) 213 [v0, v1, v2, v3] (.int y :: .int x :: .ref a :: st) h 0 0 = ((h.1 a).1 = 1 ∧ vp_in x (h.1 a).2 ∧ amN0 ≤ a ∧ eX6_reads ret F n 214 [v0, v1, v2, v3] (st) (amSI h (amU h.2.1 a x.toNatClampNeg y)) 0 0) := (amWp_dec rfl dX6_reads_213 rfl).trans rfl
theorem wX6_reads_214 {ret F n h} {v0 v1 v2 st x} : eX6_reads ret F (n + 1) 214 [v0, v1, v2, .int x] (st) h 0 0 = (eX6_reads ret F n 217 [v0, v1, amClr v2, .int (x + nI 1)] (st) h 0 0) := (amWp_dec rfl dX6_reads_214 rfl).trans rfl
theorem wX6_reads_217 {ret F n h} {v0 v1 v2 v3 st} : eX6_reads ret F (n + 1) 217 [v0, v1, v2, v3] (st) h 0 0 = (eX6_reads ret F n 30 [v0, v1, v2, v3] (st) h 0 0) := (amWp_dec rfl dX6_reads_217 rfl).trans rfl
theorem wX6_reads_220 {ret F n h} {v0 v1 v2 v3} : eX6_reads ret F (n + 1) 220 [v0, v1, v2, v3] ([]) h 0 0 = (ret none h 0 0) := (amWp_dec rfl dX6_reads_220 rfl).trans (amTrue rfl)
theorem evX6_reads (l : Launch) (G : amG) : ∀ pc S i sz, amLk rX6_reads pc = some S → decode cX6_reads pc = .ok (i, sz) → amSiteP pc G l yX6_reads.cls yX6_reads.name yX6_reads.desc (amRm 2 0 0) i sz S.1 S.2.1 S.2.2.1 S.2.2.2 := amLk_ok (by
  refine List.forall_mem_cons.mpr ⟨⟨_, _, dX6_reads_1, amSite.P (amSiteGet ⟨_, rfl, by decide, Or.inl q1310⟩)⟩, ?_⟩
  refine List.forall_mem_cons.mpr ⟨⟨_, _, dX6_reads_8, amSite.P (amSiteGet ⟨_, rfl, by decide, Or.inl q1311⟩)⟩, ?_⟩
  refine List.forall_mem_cons.mpr ⟨⟨_, _, dX6_reads_15, amSite.P (amSiteGet ⟨_, rfl, by decide, Or.inl q1312⟩)⟩, ?_⟩
  refine List.forall_mem_cons.mpr ⟨⟨_, _, dX6_reads_22, amSite.P (amSiteGet ⟨_, rfl, by decide, Or.inl q1313⟩)⟩, ?_⟩
  refine List.forall_mem_cons.mpr ⟨⟨_, _, dX6_reads_38, amSite.P (amSiteGet ⟨_, rfl, by decide, Or.inl q1295⟩)⟩, ?_⟩
  refine List.forall_mem_cons.mpr ⟨⟨_, _, dX6_reads_47, amSite.P (amSiteS (metX6_has l G) rfl (by decide) (by decide) (lw_S q1404 q1405 q94 q1406) ⟨by decide +kernel, by decide +kernel, by decide +kernel⟩)⟩, ?_⟩
  refine List.forall_mem_cons.mpr ⟨⟨_, _, dX6_reads_54, amSite.P (amSiteGet ⟨_, rfl, by decide, Or.inl q1310⟩)⟩, ?_⟩
  refine List.forall_mem_cons.mpr ⟨⟨_, _, dX6_reads_61, amSite.P (amSiteGet ⟨_, rfl, by decide, Or.inl q1308⟩)⟩, ?_⟩
  refine List.forall_mem_cons.mpr ⟨⟨_, _, dX6_reads_79, amSite.P (amSiteGet ⟨_, rfl, by decide, Or.inl q1311⟩)⟩, ?_⟩
  refine List.forall_mem_cons.mpr ⟨⟨_, _, dX6_reads_86, amSite.P (amSiteGet ⟨_, rfl, by decide, Or.inl q1308⟩)⟩, ?_⟩
  refine List.forall_mem_cons.mpr ⟨⟨_, _, dX6_reads_104, amSite.P (amSiteGet ⟨_, rfl, by decide, Or.inl q1308⟩)⟩, ?_⟩
  refine List.forall_mem_cons.mpr ⟨⟨_, _, dX6_reads_109, amSite.P (amSiteGet ⟨_, rfl, by decide, Or.inl q1308⟩)⟩, ?_⟩
  refine List.forall_mem_cons.mpr ⟨⟨_, _, dX6_reads_125, amSite.P (amSiteGet ⟨_, rfl, by decide, Or.inl q1308⟩)⟩, ?_⟩
  refine List.forall_mem_cons.mpr ⟨⟨_, _, dX6_reads_134, amSite.P (amSiteGet ⟨_, rfl, by decide, Or.inl q1309⟩)⟩, ?_⟩
  refine List.forall_mem_cons.mpr ⟨⟨_, _, dX6_reads_141, amSite.P (amSiteGet ⟨_, rfl, by decide, Or.inl q1308⟩)⟩, ?_⟩
  refine List.forall_mem_cons.mpr ⟨⟨_, _, dX6_reads_151, amSite.P (amSiteGet ⟨_, rfl, by decide, Or.inl q1309⟩)⟩, ?_⟩
  refine List.forall_mem_cons.mpr ⟨⟨_, _, dX6_reads_159, amSite.P (amSiteGet ⟨_, rfl, by decide, Or.inl q1308⟩)⟩, ?_⟩
  refine List.forall_mem_cons.mpr ⟨⟨_, _, dX6_reads_164, amSite.P (amSiteV (C := RX6) (metX6_lasts l G) rfl (by decide) (by decide) (lw_V q1407 q1409 qs45 q94 q1410) ⟨_, rfl, rfl⟩ ⟨rfl, by decide +kernel, by decide +kernel, by decide +kernel⟩)⟩, ?_⟩
  refine List.forall_mem_cons.mpr ⟨⟨_, _, dX6_reads_171, amSite.P (amSiteGet ⟨_, rfl, by decide, Or.inl q1312⟩)⟩, ?_⟩
  refine List.forall_mem_cons.mpr ⟨⟨_, _, dX6_reads_183, amSite.P (amSiteGet ⟨_, rfl, by decide, Or.inl q1308⟩)⟩, ?_⟩
  refine List.forall_mem_cons.mpr ⟨⟨_, _, dX6_reads_190, amSite.P (amSiteGet ⟨_, rfl, by decide, Or.inl q1313⟩)⟩, ?_⟩
  refine List.forall_mem_cons.mpr ⟨⟨_, _, dX6_reads_197, amSite.P (amSiteGet ⟨_, rfl, by decide, Or.inl q1308⟩)⟩, ?_⟩
  exact fun _ h => absurd h List.not_mem_nil)
theorem goX6_reads {ret F} (hF : amCld cX6_reads kX6_reads (amLk rX6_reads) none 0 0 ret F) (n : Nat) {pc ls st h k z} (q : sX6_reads ret F n pc ls st h k z) : F pc ls st h k z := hF.1 n pc ls st h k z q
theorem metX6_reads (l : Launch) (G : amG) : amMet l G yX6_reads (ws_ yX6_reads cX6_reads 4 none) 2 0 0 tX6_reads := by
  refine amMet_of (cut := kX6_reads) (by decide +kernel) (evX6_reads l G) ?_
  intro as h K hT
  match as, hT with
  | [.ref a, .int p0, .int w0], ⟨S, D, words, e, hR, hS, hB, hO, hD, hn, e1, e2, hw, hK⟩ =>
  refine ⟨Nat.le_of_ble_eq_true rfl, fun F hF => ?_⟩
  show F 0 [.ref a, .int p0, .int w0, .retAddr 0] [] h 0 0
  obtain ⟨a, rfl⟩ : ∃ i : Nat, i = a := ⟨_, rfl⟩
  subst e; subst e1; subst e2
  have h25 : h.2.1 125 1 = nI S.prior := hS.prior
  generalize hp : D.2.length = p at hK
  have hp7 : p < 7 := by omega
  have o9 : ∀ j, (D.1 j).1 ≤ 9 := fun j => (hO j).1
  have gp : ∀ j, (w1 D.1 S.prior words p j).1 ≤ 9 ∧ (0 < (w1 D.1 S.prior words p j).1 → (w1 D.1 S.prior words p j).2 ≤ p) := fun j => by have := w1_ok hO S.prior words j; rw [hp] at this; exact this
  have g9 : ∀ j, (w2 D.1 S.span S.rule S.prior words p j).1 ≤ 9 := fun j => by
    have := (gp j).1
    unfold w2
    split
    · exact Nat.zero_le _
    · exact this
  have fin : ∀ m, mdLp h.2.1 m p (w2 D.1 S.span S.rule S.prior words p) (bitsOf (freshB D.1 S.prior words) 20) (bitsOf (againB D.1 S.prior words) 20) (bitsOf (goneW D.1 S.span S.rule S.prior words p) 20) (bitsOf (fun w => decide (0 < (w2 D.1 S.span S.rule S.prior words p w).1)) 20) → F 30 [.ref 124, .int (nI p), .int (nI words), .int (nI 20)] [] (amSI h m) 0 0 := by
    intro m i
    obtain ⟨i1, i2, i3, i4, i5, i6, i7⟩ := i
    refine goX6_reads hF 60 ?_
    simp (disch := omega) only [wX6_reads_0, uX6_reads_0, wX6_reads_1, wX6_reads_4, wX6_reads_5, wX6_reads_6, wX6_reads_7, wX6_reads_8, wX6_reads_11, wX6_reads_12, wX6_reads_13, wX6_reads_14, wX6_reads_15, wX6_reads_18, wX6_reads_19, wX6_reads_20, wX6_reads_21, wX6_reads_22, wX6_reads_25, wX6_reads_26, wX6_reads_27, wX6_reads_28, wX6_reads_29, wX6_reads_30, uX6_reads_30, wX6_reads_31, wX6_reads_33, wX6_reads_36, wX6_reads_37, wX6_reads_38, wX6_reads_41, wX6_reads_42, wX6_reads_43, wX6_reads_44, wX6_reads_45, wX6_reads_46, wX6_reads_47, wX6_reads_50, wX6_reads_53, wX6_reads_54, wX6_reads_57, wX6_reads_58, wX6_reads_59, wX6_reads_60, wX6_reads_61, wX6_reads_64, wX6_reads_65, wX6_reads_66, wX6_reads_69, wX6_reads_70, wX6_reads_71, wX6_reads_72, wX6_reads_75, wX6_reads_76, wX6_reads_77, wX6_reads_78, wX6_reads_79, wX6_reads_82, wX6_reads_83, wX6_reads_84, wX6_reads_85, wX6_reads_86, wX6_reads_89, wX6_reads_90, wX6_reads_91, wX6_reads_94, wX6_reads_95, wX6_reads_96, wX6_reads_97, wX6_reads_100, wX6_reads_101, wX6_reads_102, wX6_reads_103, wX6_reads_104, wX6_reads_107, wX6_reads_108, wX6_reads_109, wX6_reads_112, wX6_reads_113, wX6_reads_114, wX6_reads_116, wX6_reads_119, wX6_reads_121, wX6_reads_124, wX6_reads_125, wX6_reads_128, wX6_reads_129, wX6_reads_130, wX6_reads_131, wX6_reads_132, wX6_reads_133, wX6_reads_134, wX6_reads_137, wX6_reads_138, wX6_reads_139, wX6_reads_140, uX6_reads_140, wX6_reads_141, wX6_reads_144, wX6_reads_145, wX6_reads_146, wX6_reads_149, wX6_reads_150, wX6_reads_151, wX6_reads_154, wX6_reads_155, wX6_reads_156, wX6_reads_157, wX6_reads_158, wX6_reads_159, wX6_reads_162, wX6_reads_163, wX6_reads_164, wX6_reads_167, wX6_reads_170, wX6_reads_171, wX6_reads_174, wX6_reads_175, wX6_reads_176, wX6_reads_177, wX6_reads_178, wX6_reads_179, wX6_reads_180, wX6_reads_181, wX6_reads_182, wX6_reads_183, wX6_reads_186, wX6_reads_187, wX6_reads_188, wX6_reads_189, uX6_reads_189, wX6_reads_190, wX6_reads_193, wX6_reads_194, wX6_reads_195, wX6_reads_196, wX6_reads_197, wX6_reads_200, wX6_reads_201, wX6_reads_202, wX6_reads_205, wX6_reads_206, wX6_reads_207, wX6_reads_208, wX6_reads_211, wX6_reads_212, wX6_reads_213, wX6_reads_214, wX6_reads_217, wX6_reads_220, amSI_1, amSI_2, amSI_3, amSI_s, amU_at, amIsR_ref, amIsR_null, amIsR_rf, amRf_some, amRf_none, amClr_int, amClr_ref, amClr_null, amClr_long, amClr_ra, amClr_rf, amFit_int, amFit_oref, amFit_aref, amFit_onull, amFit_anull, amOptSome, amOptNone, List.cons_append, List.nil_append, true_and, and_true, true_implies, not_true_eq_false, not_false_eq_true, false_implies, and_self, Nat.add_zero, Nat.zero_add, ne_eq, Prod.mk.injEq, amC01_0, amC01_1, amC01_nb, amNb0, amNb1, amTcpI_d, Nat.reduceLeDiff, Nat.reduceAdd, Nat.reduceSub, Nat.reduceEqDiff, Nat.le_refl, amN0le, hR.s, hR.r, amLeI, amLtI, amEqI, amLe0, amGt0, amEq0, amNotPosI, amGe0, amVI, amCl_nI, amAdd, amSub, amMul]
    refine amRet.of (by decide) (by decide) (hK _ ⟨fun w hw => ?_, fun q hq => ?_⟩ i7)
    · have e : (rdStep S.span S.rule S.prior D words).1 w = w2 D.1 S.span S.rule S.prior words p w := by rw [← hp]; rfl
      rw [e]
      exact i1 w hw
    · rw [rdStep_len, hp] at hq
      have e : (rdStep S.span S.rule S.prior D words).2 = D.2 ++ [showP D.1 S.span S.rule S.prior words p] := by rw [← hp]; rfl
      by_cases r : q = p
      · subst r
        have e2 : (rdStep S.span S.rule S.prior D words).2.getD q PL0 = showP D.1 S.span S.rule S.prior words q := by
          rw [e, List.getD_eq_getElem?_getD, List.getElem?_append_right (by omega), hp]
          simp
        rw [e2]
        exact ⟨i2, i3, i4, i5⟩
      · have e2 : (rdStep S.span S.rule S.prior D words).2.getD q PL0 = D.2.getD q PL0 := by
          rw [e, List.getD_eq_getElem?_getD, List.getElem?_append_left (by omega), List.getD_eq_getElem?_getD]
        rw [e2]
        have := hD.2 q (by omega)
        rw [← i6 137 (by omega) q r, ← i6 138 (by omega) q r, ← i6 139 (by omega) q r, ← i6 140 (by omega) q r] at this
        exact this
  have loop : ∀ t j m, j + t = 20 → mdLp h.2.1 m p (fun i => if i < j then w2 D.1 S.span S.rule S.prior words p i else D.1 i) (bitsOf (freshB D.1 S.prior words) j) (bitsOf (againB D.1 S.prior words) j) (bitsOf (goneW D.1 S.span S.rule S.prior words p) j) (bitsOf (fun w => decide (0 < (w2 D.1 S.span S.rule S.prior words p w).1)) j) → F 30 [.ref 124, .int (nI p), .int (nI words), .int (nI j)] [] (amSI h m) 0 0 := by
    intro t
    induction t with
    | zero =>
      intro j m e1 ii
      have e : j = 20 := by omega
      subst e
      exact fin m (ii.wd (fun i hi => by rw [if_pos hi]))
    | succ t ih =>
      intro j m e1 ii
      have hj : j < 20 := by omega
      have q : (20 ≤ j) = False := eq_false (by omega)
      have al := andn_lt (b := S.prior) (n := 20) hw
      have tb : (andn words S.prior).testBit j = metW S.prior words j := andn_tb words S.prior j
      -- behind the loss
      have at189 : ∀ m, mdLp h.2.1 m p (fun i => if i < j + 1 then w2 D.1 S.span S.rule S.prior words p i else D.1 i) (bitsOf (freshB D.1 S.prior words) (j + 1)) (bitsOf (againB D.1 S.prior words) (j + 1)) (bitsOf (goneW D.1 S.span S.rule S.prior words p) (j + 1)) (bitsOf (fun w => decide (0 < (w2 D.1 S.span S.rule S.prior words p w).1)) j) → F 189 [.ref 124, .int (nI p), .int (nI words), .int (nI j)] [] (amSI h m) 0 0 := by
        intro m ii
        have s1 : m 135 j = nI (w2 D.1 S.span S.rule S.prior words p j).1 := by have := (ii.1 j hj).1; dsimp only at this; rw [if_pos (by omega)] at this; exact this
        have i5 := ii.2.2.2.2.1
        have s9 := g9 j
        have nx := fun v (e : v = bitsOf (fun w => decide (0 < (w2 D.1 S.span S.rule S.prior words p w).1)) (j + 1)) => ih (j + 1) _ (by omega) (by have := ii.s4 v; rw [e] at this; exact this)
        refine goX6_reads hF 60 ?_
        simp (disch := omega) only [wX6_reads_0, uX6_reads_0, wX6_reads_1, wX6_reads_4, wX6_reads_5, wX6_reads_6, wX6_reads_7, wX6_reads_8, wX6_reads_11, wX6_reads_12, wX6_reads_13, wX6_reads_14, wX6_reads_15, wX6_reads_18, wX6_reads_19, wX6_reads_20, wX6_reads_21, wX6_reads_22, wX6_reads_25, wX6_reads_26, wX6_reads_27, wX6_reads_28, wX6_reads_29, wX6_reads_30, uX6_reads_30, wX6_reads_31, wX6_reads_33, wX6_reads_36, wX6_reads_37, wX6_reads_38, wX6_reads_41, wX6_reads_42, wX6_reads_43, wX6_reads_44, wX6_reads_45, wX6_reads_46, wX6_reads_47, wX6_reads_50, wX6_reads_53, wX6_reads_54, wX6_reads_57, wX6_reads_58, wX6_reads_59, wX6_reads_60, wX6_reads_61, wX6_reads_64, wX6_reads_65, wX6_reads_66, wX6_reads_69, wX6_reads_70, wX6_reads_71, wX6_reads_72, wX6_reads_75, wX6_reads_76, wX6_reads_77, wX6_reads_78, wX6_reads_79, wX6_reads_82, wX6_reads_83, wX6_reads_84, wX6_reads_85, wX6_reads_86, wX6_reads_89, wX6_reads_90, wX6_reads_91, wX6_reads_94, wX6_reads_95, wX6_reads_96, wX6_reads_97, wX6_reads_100, wX6_reads_101, wX6_reads_102, wX6_reads_103, wX6_reads_104, wX6_reads_107, wX6_reads_108, wX6_reads_109, wX6_reads_112, wX6_reads_113, wX6_reads_114, wX6_reads_116, wX6_reads_119, wX6_reads_121, wX6_reads_124, wX6_reads_125, wX6_reads_128, wX6_reads_129, wX6_reads_130, wX6_reads_131, wX6_reads_132, wX6_reads_133, wX6_reads_134, wX6_reads_137, wX6_reads_138, wX6_reads_139, wX6_reads_140, uX6_reads_140, wX6_reads_141, wX6_reads_144, wX6_reads_145, wX6_reads_146, wX6_reads_149, wX6_reads_150, wX6_reads_151, wX6_reads_154, wX6_reads_155, wX6_reads_156, wX6_reads_157, wX6_reads_158, wX6_reads_159, wX6_reads_162, wX6_reads_163, wX6_reads_164, wX6_reads_167, wX6_reads_170, wX6_reads_171, wX6_reads_174, wX6_reads_175, wX6_reads_176, wX6_reads_177, wX6_reads_178, wX6_reads_179, wX6_reads_180, wX6_reads_181, wX6_reads_182, wX6_reads_183, wX6_reads_186, wX6_reads_187, wX6_reads_188, wX6_reads_189, uX6_reads_189, wX6_reads_190, wX6_reads_193, wX6_reads_194, wX6_reads_195, wX6_reads_196, wX6_reads_197, wX6_reads_200, wX6_reads_201, wX6_reads_202, wX6_reads_205, wX6_reads_206, wX6_reads_207, wX6_reads_208, wX6_reads_211, wX6_reads_212, wX6_reads_213, wX6_reads_214, wX6_reads_217, wX6_reads_220, amSI_1, amSI_2, amSI_3, amSI_s, amU_at, amIsR_ref, amIsR_null, amIsR_rf, amRf_some, amRf_none, amClr_int, amClr_ref, amClr_null, amClr_long, amClr_ra, amClr_rf, amFit_int, amFit_oref, amFit_aref, amFit_onull, amFit_anull, amOptSome, amOptNone, List.cons_append, List.nil_append, true_and, and_true, true_implies, not_true_eq_false, not_false_eq_true, false_implies, and_self, Nat.add_zero, Nat.zero_add, ne_eq, Prod.mk.injEq, amC01_0, amC01_1, amC01_nb, amNb0, amNb1, amTcpI_d, Nat.reduceLeDiff, Nat.reduceAdd, Nat.reduceSub, Nat.reduceEqDiff, Nat.le_refl, amN0le, hR.s, hR.r, amLeI, amLtI, amEqI, amLe0, amGt0, amEq0, amNotPosI, amGe0, amVI, amCl_nI, amAdd, amSub, amMul, s1, i5, nx_p2, nx_or]
        refine ⟨fun r => ?_, fun r => ?_⟩
        · have := nx (bitsOf (fun w => decide (0 < (w2 D.1 S.span S.rule S.prior words p w).1)) j ||| 0) (by rw [bitsOf, r]; rfl)
          rw [bitsOf, r] at this
          exact this
        · have := nx (bitsOf (fun w => decide (0 < (w2 D.1 S.span S.rule S.prior words p w).1)) j ||| 2 ^ j) (by rw [bitsOf, if_pos (by rw [decide_eq_true_eq]; omega)])
          rw [bitsOf, if_pos (by rw [decide_eq_true_eq]; omega)] at this
          exact this
      -- behind the meeting
      have at140 : ∀ m, mdLp h.2.1 m p (fun i => if i < j then w2 D.1 S.span S.rule S.prior words p i else if i = j then w1 D.1 S.prior words p i else D.1 i) (bitsOf (freshB D.1 S.prior words) (j + 1)) (bitsOf (againB D.1 S.prior words) (j + 1)) (bitsOf (goneW D.1 S.span S.rule S.prior words p) j) (bitsOf (fun w => decide (0 < (w2 D.1 S.span S.rule S.prior words p w).1)) j) → F 140 [.ref 124, .int (nI p), .int (nI words), .int (nI j)] [] (amSI h m) 0 0 := by
        intro m ii
        have s1 := (ii.1 j hj).1
        have s2 := (ii.1 j hj).2
        dsimp only at s1 s2
        rw [if_neg (Nat.lt_irrefl j), if_pos rfl] at s1 s2
        obtain ⟨b1, b2⟩ := gp j
        have i4 := ii.2.2.2.1
        have stay : goneW D.1 S.span S.rule S.prior words p j = false → mdLp h.2.1 m p (fun i => if i < j + 1 then w2 D.1 S.span S.rule S.prior words p i else D.1 i) (bitsOf (freshB D.1 S.prior words) (j + 1)) (bitsOf (againB D.1 S.prior words) (j + 1)) (bitsOf (goneW D.1 S.span S.rule S.prior words p) (j + 1)) (bitsOf (fun w => decide (0 < (w2 D.1 S.span S.rule S.prior words p w).1)) j) := by
          intro g
          have e : w2 D.1 S.span S.rule S.prior words p j = w1 D.1 S.prior words p j := by unfold w2; rw [g]; rfl
          have e3 : bitsOf (goneW D.1 S.span S.rule S.prior words p) (j + 1) = bitsOf (goneW D.1 S.span S.rule S.prior words p) j := by rw [bitsOf, g]; simp
          rw [e3]
          refine ii.wd (fun i hi => ?_)
          by_cases r : i < j
          · rw [if_pos r, if_pos (by omega)]
          · by_cases r2 : i = j
            · subst r2; rw [if_neg r, if_pos rfl, if_pos (by omega), e]
            · rw [if_neg r, if_neg r2, if_neg (by omega)]
        have go : goneW D.1 S.span S.rule S.prior words p j = true → mdLp h.2.1 (amU (amU m 139 p (nI (bitsOf (goneW D.1 S.span S.rule S.prior words p) j ||| 2 ^ j))) 135 j (nI 0)) p (fun i => if i < j + 1 then w2 D.1 S.span S.rule S.prior words p i else D.1 i) (bitsOf (freshB D.1 S.prior words) (j + 1)) (bitsOf (againB D.1 S.prior words) (j + 1)) (bitsOf (goneW D.1 S.span S.rule S.prior words p) (j + 1)) (bitsOf (fun w => decide (0 < (w2 D.1 S.span S.rule S.prior words p w).1)) j) := by
          intro g
          have e : w2 D.1 S.span S.rule S.prior words p j = (0, (w1 D.1 S.prior words p j).2) := by unfold w2; rw [g]; rfl
          have e3 : bitsOf (goneW D.1 S.span S.rule S.prior words p) (j + 1) = bitsOf (goneW D.1 S.span S.rule S.prior words p) j ||| 2 ^ j := by rw [bitsOf, g]; rfl
          rw [e3]
          refine ((ii.s3 _).no j).wd (fun i hi => ?_)
          by_cases r2 : i = j
          · subst r2; rw [if_pos (by omega), if_pos rfl, if_neg (Nat.lt_irrefl i), if_pos rfl, e]
          · rw [if_neg r2]
            by_cases r : i < j
            · rw [if_pos r, if_pos (by omega)]
            · rw [if_neg r, if_neg r2, if_neg (by omega)]
        have hS' : RwIs m 125 0 S := hS.kept (ii.2.2.2.2.2.2 125 (by omega))
        by_cases z : (w1 D.1 S.prior words p j).1 = 0
        · have z' : ((w1 D.1 S.prior words p j).1 = 0) = True := eq_true z
          have := at189 m (stay (by unfold goneW; rw [z]; rfl))
          refine goX6_reads hF 60 ?_
          simp (disch := omega) only [wX6_reads_0, uX6_reads_0, wX6_reads_1, wX6_reads_4, wX6_reads_5, wX6_reads_6, wX6_reads_7, wX6_reads_8, wX6_reads_11, wX6_reads_12, wX6_reads_13, wX6_reads_14, wX6_reads_15, wX6_reads_18, wX6_reads_19, wX6_reads_20, wX6_reads_21, wX6_reads_22, wX6_reads_25, wX6_reads_26, wX6_reads_27, wX6_reads_28, wX6_reads_29, wX6_reads_30, uX6_reads_30, wX6_reads_31, wX6_reads_33, wX6_reads_36, wX6_reads_37, wX6_reads_38, wX6_reads_41, wX6_reads_42, wX6_reads_43, wX6_reads_44, wX6_reads_45, wX6_reads_46, wX6_reads_47, wX6_reads_50, wX6_reads_53, wX6_reads_54, wX6_reads_57, wX6_reads_58, wX6_reads_59, wX6_reads_60, wX6_reads_61, wX6_reads_64, wX6_reads_65, wX6_reads_66, wX6_reads_69, wX6_reads_70, wX6_reads_71, wX6_reads_72, wX6_reads_75, wX6_reads_76, wX6_reads_77, wX6_reads_78, wX6_reads_79, wX6_reads_82, wX6_reads_83, wX6_reads_84, wX6_reads_85, wX6_reads_86, wX6_reads_89, wX6_reads_90, wX6_reads_91, wX6_reads_94, wX6_reads_95, wX6_reads_96, wX6_reads_97, wX6_reads_100, wX6_reads_101, wX6_reads_102, wX6_reads_103, wX6_reads_104, wX6_reads_107, wX6_reads_108, wX6_reads_109, wX6_reads_112, wX6_reads_113, wX6_reads_114, wX6_reads_116, wX6_reads_119, wX6_reads_121, wX6_reads_124, wX6_reads_125, wX6_reads_128, wX6_reads_129, wX6_reads_130, wX6_reads_131, wX6_reads_132, wX6_reads_133, wX6_reads_134, wX6_reads_137, wX6_reads_138, wX6_reads_139, wX6_reads_140, uX6_reads_140, wX6_reads_141, wX6_reads_144, wX6_reads_145, wX6_reads_146, wX6_reads_149, wX6_reads_150, wX6_reads_151, wX6_reads_154, wX6_reads_155, wX6_reads_156, wX6_reads_157, wX6_reads_158, wX6_reads_159, wX6_reads_162, wX6_reads_163, wX6_reads_164, wX6_reads_167, wX6_reads_170, wX6_reads_171, wX6_reads_174, wX6_reads_175, wX6_reads_176, wX6_reads_177, wX6_reads_178, wX6_reads_179, wX6_reads_180, wX6_reads_181, wX6_reads_182, wX6_reads_183, wX6_reads_186, wX6_reads_187, wX6_reads_188, wX6_reads_189, uX6_reads_189, wX6_reads_190, wX6_reads_193, wX6_reads_194, wX6_reads_195, wX6_reads_196, wX6_reads_197, wX6_reads_200, wX6_reads_201, wX6_reads_202, wX6_reads_205, wX6_reads_206, wX6_reads_207, wX6_reads_208, wX6_reads_211, wX6_reads_212, wX6_reads_213, wX6_reads_214, wX6_reads_217, wX6_reads_220, amSI_1, amSI_2, amSI_3, amSI_s, amU_at, amIsR_ref, amIsR_null, amIsR_rf, amRf_some, amRf_none, amClr_int, amClr_ref, amClr_null, amClr_long, amClr_ra, amClr_rf, amFit_int, amFit_oref, amFit_aref, amFit_onull, amFit_anull, amOptSome, amOptNone, List.cons_append, List.nil_append, true_and, and_true, true_implies, not_true_eq_false, not_false_eq_true, false_implies, and_self, Nat.add_zero, Nat.zero_add, ne_eq, Prod.mk.injEq, amC01_0, amC01_1, amC01_nb, amNb0, amNb1, amTcpI_d, Nat.reduceLeDiff, Nat.reduceAdd, Nat.reduceSub, Nat.reduceEqDiff, Nat.le_refl, amN0le, hR.s, hR.r, amLeI, amLtI, amEqI, amLe0, amGt0, amEq0, amNotPosI, amGe0, amVI, amCl_nI, amAdd, amSub, amMul, s1, z']
          exact this
        · have z' : ((w1 D.1 S.prior words p j).1 = 0) = False := eq_false z
          have sl := s2 (by omega)
          have b2 := b2 (by omega)
          have hv : lastsN S.span S.rule (w1 D.1 S.prior words p j).1 ≤ 1024 := lastsN_lt hB.2.1 b1
          refine goX6_reads hF 60 ?_
          simp (disch := omega) only [wX6_reads_0, uX6_reads_0, wX6_reads_1, wX6_reads_4, wX6_reads_5, wX6_reads_6, wX6_reads_7, wX6_reads_8, wX6_reads_11, wX6_reads_12, wX6_reads_13, wX6_reads_14, wX6_reads_15, wX6_reads_18, wX6_reads_19, wX6_reads_20, wX6_reads_21, wX6_reads_22, wX6_reads_25, wX6_reads_26, wX6_reads_27, wX6_reads_28, wX6_reads_29, wX6_reads_30, uX6_reads_30, wX6_reads_31, wX6_reads_33, wX6_reads_36, wX6_reads_37, wX6_reads_38, wX6_reads_41, wX6_reads_42, wX6_reads_43, wX6_reads_44, wX6_reads_45, wX6_reads_46, wX6_reads_47, wX6_reads_50, wX6_reads_53, wX6_reads_54, wX6_reads_57, wX6_reads_58, wX6_reads_59, wX6_reads_60, wX6_reads_61, wX6_reads_64, wX6_reads_65, wX6_reads_66, wX6_reads_69, wX6_reads_70, wX6_reads_71, wX6_reads_72, wX6_reads_75, wX6_reads_76, wX6_reads_77, wX6_reads_78, wX6_reads_79, wX6_reads_82, wX6_reads_83, wX6_reads_84, wX6_reads_85, wX6_reads_86, wX6_reads_89, wX6_reads_90, wX6_reads_91, wX6_reads_94, wX6_reads_95, wX6_reads_96, wX6_reads_97, wX6_reads_100, wX6_reads_101, wX6_reads_102, wX6_reads_103, wX6_reads_104, wX6_reads_107, wX6_reads_108, wX6_reads_109, wX6_reads_112, wX6_reads_113, wX6_reads_114, wX6_reads_116, wX6_reads_119, wX6_reads_121, wX6_reads_124, wX6_reads_125, wX6_reads_128, wX6_reads_129, wX6_reads_130, wX6_reads_131, wX6_reads_132, wX6_reads_133, wX6_reads_134, wX6_reads_137, wX6_reads_138, wX6_reads_139, wX6_reads_140, uX6_reads_140, wX6_reads_141, wX6_reads_144, wX6_reads_145, wX6_reads_146, wX6_reads_149, wX6_reads_150, wX6_reads_151, wX6_reads_154, wX6_reads_155, wX6_reads_156, wX6_reads_157, wX6_reads_158, wX6_reads_159, wX6_reads_162, wX6_reads_163, wX6_reads_164, wX6_reads_167, wX6_reads_170, wX6_reads_171, wX6_reads_174, wX6_reads_175, wX6_reads_176, wX6_reads_177, wX6_reads_178, wX6_reads_179, wX6_reads_180, wX6_reads_181, wX6_reads_182, wX6_reads_183, wX6_reads_186, wX6_reads_187, wX6_reads_188, wX6_reads_189, uX6_reads_189, wX6_reads_190, wX6_reads_193, wX6_reads_194, wX6_reads_195, wX6_reads_196, wX6_reads_197, wX6_reads_200, wX6_reads_201, wX6_reads_202, wX6_reads_205, wX6_reads_206, wX6_reads_207, wX6_reads_208, wX6_reads_211, wX6_reads_212, wX6_reads_213, wX6_reads_214, wX6_reads_217, wX6_reads_220, amSI_1, amSI_2, amSI_3, amSI_s, amU_at, amIsR_ref, amIsR_null, amIsR_rf, amRf_some, amRf_none, amClr_int, amClr_ref, amClr_null, amClr_long, amClr_ra, amClr_rf, amFit_int, amFit_oref, amFit_aref, amFit_onull, amFit_anull, amOptSome, amOptNone, List.cons_append, List.nil_append, true_and, and_true, true_implies, not_true_eq_false, not_false_eq_true, false_implies, and_self, Nat.add_zero, Nat.zero_add, ne_eq, Prod.mk.injEq, amC01_0, amC01_1, amC01_nb, amNb0, amNb1, amTcpI_d, Nat.reduceLeDiff, Nat.reduceAdd, Nat.reduceSub, Nat.reduceEqDiff, Nat.le_refl, amN0le, hR.s, hR.r, amLeI, amLtI, amEqI, amLe0, amGt0, amEq0, amNotPosI, amGe0, amVI, amCl_nI, amAdd, amSub, amMul, s1, sl, z', tX6_lasts_d]
          refine ⟨S, _, hR, hS', hB, rfl, by omega, b1, ?_⟩
          simp (disch := omega) only [wX6_reads_0, uX6_reads_0, wX6_reads_1, wX6_reads_4, wX6_reads_5, wX6_reads_6, wX6_reads_7, wX6_reads_8, wX6_reads_11, wX6_reads_12, wX6_reads_13, wX6_reads_14, wX6_reads_15, wX6_reads_18, wX6_reads_19, wX6_reads_20, wX6_reads_21, wX6_reads_22, wX6_reads_25, wX6_reads_26, wX6_reads_27, wX6_reads_28, wX6_reads_29, wX6_reads_30, uX6_reads_30, wX6_reads_31, wX6_reads_33, wX6_reads_36, wX6_reads_37, wX6_reads_38, wX6_reads_41, wX6_reads_42, wX6_reads_43, wX6_reads_44, wX6_reads_45, wX6_reads_46, wX6_reads_47, wX6_reads_50, wX6_reads_53, wX6_reads_54, wX6_reads_57, wX6_reads_58, wX6_reads_59, wX6_reads_60, wX6_reads_61, wX6_reads_64, wX6_reads_65, wX6_reads_66, wX6_reads_69, wX6_reads_70, wX6_reads_71, wX6_reads_72, wX6_reads_75, wX6_reads_76, wX6_reads_77, wX6_reads_78, wX6_reads_79, wX6_reads_82, wX6_reads_83, wX6_reads_84, wX6_reads_85, wX6_reads_86, wX6_reads_89, wX6_reads_90, wX6_reads_91, wX6_reads_94, wX6_reads_95, wX6_reads_96, wX6_reads_97, wX6_reads_100, wX6_reads_101, wX6_reads_102, wX6_reads_103, wX6_reads_104, wX6_reads_107, wX6_reads_108, wX6_reads_109, wX6_reads_112, wX6_reads_113, wX6_reads_114, wX6_reads_116, wX6_reads_119, wX6_reads_121, wX6_reads_124, wX6_reads_125, wX6_reads_128, wX6_reads_129, wX6_reads_130, wX6_reads_131, wX6_reads_132, wX6_reads_133, wX6_reads_134, wX6_reads_137, wX6_reads_138, wX6_reads_139, wX6_reads_140, uX6_reads_140, wX6_reads_141, wX6_reads_144, wX6_reads_145, wX6_reads_146, wX6_reads_149, wX6_reads_150, wX6_reads_151, wX6_reads_154, wX6_reads_155, wX6_reads_156, wX6_reads_157, wX6_reads_158, wX6_reads_159, wX6_reads_162, wX6_reads_163, wX6_reads_164, wX6_reads_167, wX6_reads_170, wX6_reads_171, wX6_reads_174, wX6_reads_175, wX6_reads_176, wX6_reads_177, wX6_reads_178, wX6_reads_179, wX6_reads_180, wX6_reads_181, wX6_reads_182, wX6_reads_183, wX6_reads_186, wX6_reads_187, wX6_reads_188, wX6_reads_189, uX6_reads_189, wX6_reads_190, wX6_reads_193, wX6_reads_194, wX6_reads_195, wX6_reads_196, wX6_reads_197, wX6_reads_200, wX6_reads_201, wX6_reads_202, wX6_reads_205, wX6_reads_206, wX6_reads_207, wX6_reads_208, wX6_reads_211, wX6_reads_212, wX6_reads_213, wX6_reads_214, wX6_reads_217, wX6_reads_220, amSI_1, amSI_2, amSI_3, amSI_s, amU_at, amIsR_ref, amIsR_null, amIsR_rf, amRf_some, amRf_none, amClr_int, amClr_ref, amClr_null, amClr_long, amClr_ra, amClr_rf, amFit_int, amFit_oref, amFit_aref, amFit_onull, amFit_anull, amOptSome, amOptNone, List.cons_append, List.nil_append, true_and, and_true, true_implies, not_true_eq_false, not_false_eq_true, false_implies, and_self, Nat.add_zero, Nat.zero_add, ne_eq, Prod.mk.injEq, amC01_0, amC01_1, amC01_nb, amNb0, amNb1, amTcpI_d, Nat.reduceLeDiff, Nat.reduceAdd, Nat.reduceSub, Nat.reduceEqDiff, Nat.le_refl, amN0le, hR.s, hR.r, amLeI, amLtI, amEqI, amLe0, amGt0, amEq0, amNotPosI, amGe0, amVI, amCl_nI, amAdd, amSub, amMul, s1, i4, nx_p2, nx_or]
          refine ⟨fun r => ?_, fun r => ?_⟩
          · exact at189 m (stay (by simp only [goneW, Bool.and_eq_false_iff, decide_eq_false_iff_not]; right; omega))
          · exact at189 _ (go (by simp only [goneW, Bool.and_eq_true, decide_eq_true_eq]; exact ⟨by omega, by omega⟩))
      have s1 : m 135 j = nI (D.1 j).1 := by have := (ii.1 j hj).1; dsimp only at this; rw [if_neg (Nat.lt_irrefl j)] at this; exact this
      have i2 := ii.2.1
      have i3 := ii.2.2.1
      have i7 := ii.2.2.2.2.2.2
      have m25 : m 125 1 = nI S.prior := by rw [i7 125 (by omega)]; exact h25
      have c9 := o9 j
      by_cases g : metW S.prior words j = true
      · have gT : (metW S.prior words j = true) = True := eq_true g
        have e : w1 D.1 S.prior words p j = (if (D.1 j).1 < 9 then (D.1 j).1 + 1 else (D.1 j).1, p) := by unfold w1; rw [if_pos g]
        have done : ∀ f a s, f = bitsOf (freshB D.1 S.prior words) (j + 1) → a = bitsOf (againB D.1 S.prior words) (j + 1) → s = (w1 D.1 S.prior words p j).1 → F 140 [.ref 124, .int (nI p), .int (nI words), .int (nI j)] [] (amSI h (amU (amU (amU (amU m 137 p (nI f)) 138 p (nI a)) 135 j (nI s)) 136 j (nI p))) 0 0 := by
          intro f a s ef ea es
          refine at140 _ ?_
          have := ((ii.s1 f).s2 a).st j s
          rw [← ef, ← ea]
          refine this.wd (fun i hi => ?_)
          by_cases r2 : i = j
          · subst r2; rw [if_neg (Nat.lt_irrefl i), if_pos rfl, if_pos rfl, es, e]
          · by_cases r : i < j
            · rw [if_pos r, if_neg r2, if_pos r]
            · rw [if_neg r, if_neg r2, if_neg r2, if_neg r]
        by_cases z : (D.1 j).1 = 0
        · have z' : ((D.1 j).1 = 0) = True := eq_true z
          have z9 : ((D.1 j).1 = 9) = False := eq_false (by omega)
          have := done (bitsOf (freshB D.1 S.prior words) j ||| 2 ^ j) (bitsOf (againB D.1 S.prior words) j ||| 0) ((D.1 j).1 + 1) (by rw [bitsOf, if_pos (by simp [freshB, g, z])]) (by rw [bitsOf, if_neg (by simp [againB, z])]) (by rw [e, if_pos (by omega)])
          refine goX6_reads hF 80 ?_
          simp (disch := omega) only [wX6_reads_0, uX6_reads_0, wX6_reads_1, wX6_reads_4, wX6_reads_5, wX6_reads_6, wX6_reads_7, wX6_reads_8, wX6_reads_11, wX6_reads_12, wX6_reads_13, wX6_reads_14, wX6_reads_15, wX6_reads_18, wX6_reads_19, wX6_reads_20, wX6_reads_21, wX6_reads_22, wX6_reads_25, wX6_reads_26, wX6_reads_27, wX6_reads_28, wX6_reads_29, wX6_reads_30, uX6_reads_30, wX6_reads_31, wX6_reads_33, wX6_reads_36, wX6_reads_37, wX6_reads_38, wX6_reads_41, wX6_reads_42, wX6_reads_43, wX6_reads_44, wX6_reads_45, wX6_reads_46, wX6_reads_47, wX6_reads_50, wX6_reads_53, wX6_reads_54, wX6_reads_57, wX6_reads_58, wX6_reads_59, wX6_reads_60, wX6_reads_61, wX6_reads_64, wX6_reads_65, wX6_reads_66, wX6_reads_69, wX6_reads_70, wX6_reads_71, wX6_reads_72, wX6_reads_75, wX6_reads_76, wX6_reads_77, wX6_reads_78, wX6_reads_79, wX6_reads_82, wX6_reads_83, wX6_reads_84, wX6_reads_85, wX6_reads_86, wX6_reads_89, wX6_reads_90, wX6_reads_91, wX6_reads_94, wX6_reads_95, wX6_reads_96, wX6_reads_97, wX6_reads_100, wX6_reads_101, wX6_reads_102, wX6_reads_103, wX6_reads_104, wX6_reads_107, wX6_reads_108, wX6_reads_109, wX6_reads_112, wX6_reads_113, wX6_reads_114, wX6_reads_116, wX6_reads_119, wX6_reads_121, wX6_reads_124, wX6_reads_125, wX6_reads_128, wX6_reads_129, wX6_reads_130, wX6_reads_131, wX6_reads_132, wX6_reads_133, wX6_reads_134, wX6_reads_137, wX6_reads_138, wX6_reads_139, wX6_reads_140, uX6_reads_140, wX6_reads_141, wX6_reads_144, wX6_reads_145, wX6_reads_146, wX6_reads_149, wX6_reads_150, wX6_reads_151, wX6_reads_154, wX6_reads_155, wX6_reads_156, wX6_reads_157, wX6_reads_158, wX6_reads_159, wX6_reads_162, wX6_reads_163, wX6_reads_164, wX6_reads_167, wX6_reads_170, wX6_reads_171, wX6_reads_174, wX6_reads_175, wX6_reads_176, wX6_reads_177, wX6_reads_178, wX6_reads_179, wX6_reads_180, wX6_reads_181, wX6_reads_182, wX6_reads_183, wX6_reads_186, wX6_reads_187, wX6_reads_188, wX6_reads_189, uX6_reads_189, wX6_reads_190, wX6_reads_193, wX6_reads_194, wX6_reads_195, wX6_reads_196, wX6_reads_197, wX6_reads_200, wX6_reads_201, wX6_reads_202, wX6_reads_205, wX6_reads_206, wX6_reads_207, wX6_reads_208, wX6_reads_211, wX6_reads_212, wX6_reads_213, wX6_reads_214, wX6_reads_217, wX6_reads_220, amSI_1, amSI_2, amSI_3, amSI_s, amU_at, amIsR_ref, amIsR_null, amIsR_rf, amRf_some, amRf_none, amClr_int, amClr_ref, amClr_null, amClr_long, amClr_ra, amClr_rf, amFit_int, amFit_oref, amFit_aref, amFit_onull, amFit_anull, amOptSome, amOptNone, List.cons_append, List.nil_append, true_and, and_true, true_implies, not_true_eq_false, not_false_eq_true, false_implies, and_self, Nat.add_zero, Nat.zero_add, ne_eq, Prod.mk.injEq, amC01_0, amC01_1, amC01_nb, amNb0, amNb1, amTcpI_d, Nat.reduceLeDiff, Nat.reduceAdd, Nat.reduceSub, Nat.reduceEqDiff, Nat.le_refl, amN0le, hR.s, hR.r, amLeI, amLtI, amEqI, amLe0, amGt0, amEq0, amNotPosI, amGe0, amVI, amCl_nI, amAdd, amSub, amMul, m25, nx_not, tX6_has_d, nx_hasI, tb, q, gT, s1, i2, i3, z', z9, nx_p2, nx_or, amU_ne]
          exact this
        · have z' : ((D.1 j).1 = 0) = False := eq_false z
          by_cases y : (D.1 j).1 = 9
          · have z9 : ((D.1 j).1 = 9) = True := eq_true y
            have := done (bitsOf (freshB D.1 S.prior words) j ||| 0) (bitsOf (againB D.1 S.prior words) j ||| 2 ^ j) 9 (by rw [bitsOf, if_neg (by simp [freshB, z])]) (by rw [bitsOf, if_pos (by simp [againB, g, z])]) (by rw [e, if_neg (by omega)]; exact y.symm)
            refine goX6_reads hF 80 ?_
            simp (disch := omega) only [wX6_reads_0, uX6_reads_0, wX6_reads_1, wX6_reads_4, wX6_reads_5, wX6_reads_6, wX6_reads_7, wX6_reads_8, wX6_reads_11, wX6_reads_12, wX6_reads_13, wX6_reads_14, wX6_reads_15, wX6_reads_18, wX6_reads_19, wX6_reads_20, wX6_reads_21, wX6_reads_22, wX6_reads_25, wX6_reads_26, wX6_reads_27, wX6_reads_28, wX6_reads_29, wX6_reads_30, uX6_reads_30, wX6_reads_31, wX6_reads_33, wX6_reads_36, wX6_reads_37, wX6_reads_38, wX6_reads_41, wX6_reads_42, wX6_reads_43, wX6_reads_44, wX6_reads_45, wX6_reads_46, wX6_reads_47, wX6_reads_50, wX6_reads_53, wX6_reads_54, wX6_reads_57, wX6_reads_58, wX6_reads_59, wX6_reads_60, wX6_reads_61, wX6_reads_64, wX6_reads_65, wX6_reads_66, wX6_reads_69, wX6_reads_70, wX6_reads_71, wX6_reads_72, wX6_reads_75, wX6_reads_76, wX6_reads_77, wX6_reads_78, wX6_reads_79, wX6_reads_82, wX6_reads_83, wX6_reads_84, wX6_reads_85, wX6_reads_86, wX6_reads_89, wX6_reads_90, wX6_reads_91, wX6_reads_94, wX6_reads_95, wX6_reads_96, wX6_reads_97, wX6_reads_100, wX6_reads_101, wX6_reads_102, wX6_reads_103, wX6_reads_104, wX6_reads_107, wX6_reads_108, wX6_reads_109, wX6_reads_112, wX6_reads_113, wX6_reads_114, wX6_reads_116, wX6_reads_119, wX6_reads_121, wX6_reads_124, wX6_reads_125, wX6_reads_128, wX6_reads_129, wX6_reads_130, wX6_reads_131, wX6_reads_132, wX6_reads_133, wX6_reads_134, wX6_reads_137, wX6_reads_138, wX6_reads_139, wX6_reads_140, uX6_reads_140, wX6_reads_141, wX6_reads_144, wX6_reads_145, wX6_reads_146, wX6_reads_149, wX6_reads_150, wX6_reads_151, wX6_reads_154, wX6_reads_155, wX6_reads_156, wX6_reads_157, wX6_reads_158, wX6_reads_159, wX6_reads_162, wX6_reads_163, wX6_reads_164, wX6_reads_167, wX6_reads_170, wX6_reads_171, wX6_reads_174, wX6_reads_175, wX6_reads_176, wX6_reads_177, wX6_reads_178, wX6_reads_179, wX6_reads_180, wX6_reads_181, wX6_reads_182, wX6_reads_183, wX6_reads_186, wX6_reads_187, wX6_reads_188, wX6_reads_189, uX6_reads_189, wX6_reads_190, wX6_reads_193, wX6_reads_194, wX6_reads_195, wX6_reads_196, wX6_reads_197, wX6_reads_200, wX6_reads_201, wX6_reads_202, wX6_reads_205, wX6_reads_206, wX6_reads_207, wX6_reads_208, wX6_reads_211, wX6_reads_212, wX6_reads_213, wX6_reads_214, wX6_reads_217, wX6_reads_220, amSI_1, amSI_2, amSI_3, amSI_s, amU_at, amIsR_ref, amIsR_null, amIsR_rf, amRf_some, amRf_none, amClr_int, amClr_ref, amClr_null, amClr_long, amClr_ra, amClr_rf, amFit_int, amFit_oref, amFit_aref, amFit_onull, amFit_anull, amOptSome, amOptNone, List.cons_append, List.nil_append, true_and, and_true, true_implies, not_true_eq_false, not_false_eq_true, false_implies, and_self, Nat.add_zero, Nat.zero_add, ne_eq, Prod.mk.injEq, amC01_0, amC01_1, amC01_nb, amNb0, amNb1, amTcpI_d, Nat.reduceLeDiff, Nat.reduceAdd, Nat.reduceSub, Nat.reduceEqDiff, Nat.le_refl, amN0le, hR.s, hR.r, amLeI, amLtI, amEqI, amLe0, amGt0, amEq0, amNotPosI, amGe0, amVI, amCl_nI, amAdd, amSub, amMul, m25, nx_not, tX6_has_d, nx_hasI, tb, q, gT, s1, i2, i3, z', z9, nx_p2, nx_or, amU_ne]
            exact this
          · have z9 : ((D.1 j).1 = 9) = False := eq_false y
            have := done (bitsOf (freshB D.1 S.prior words) j ||| 0) (bitsOf (againB D.1 S.prior words) j ||| 2 ^ j) ((D.1 j).1 + 1) (by rw [bitsOf, if_neg (by simp [freshB, z])]) (by rw [bitsOf, if_pos (by simp [againB, g, z])]) (by rw [e, if_pos (by omega)])
            refine goX6_reads hF 80 ?_
            simp (disch := omega) only [wX6_reads_0, uX6_reads_0, wX6_reads_1, wX6_reads_4, wX6_reads_5, wX6_reads_6, wX6_reads_7, wX6_reads_8, wX6_reads_11, wX6_reads_12, wX6_reads_13, wX6_reads_14, wX6_reads_15, wX6_reads_18, wX6_reads_19, wX6_reads_20, wX6_reads_21, wX6_reads_22, wX6_reads_25, wX6_reads_26, wX6_reads_27, wX6_reads_28, wX6_reads_29, wX6_reads_30, uX6_reads_30, wX6_reads_31, wX6_reads_33, wX6_reads_36, wX6_reads_37, wX6_reads_38, wX6_reads_41, wX6_reads_42, wX6_reads_43, wX6_reads_44, wX6_reads_45, wX6_reads_46, wX6_reads_47, wX6_reads_50, wX6_reads_53, wX6_reads_54, wX6_reads_57, wX6_reads_58, wX6_reads_59, wX6_reads_60, wX6_reads_61, wX6_reads_64, wX6_reads_65, wX6_reads_66, wX6_reads_69, wX6_reads_70, wX6_reads_71, wX6_reads_72, wX6_reads_75, wX6_reads_76, wX6_reads_77, wX6_reads_78, wX6_reads_79, wX6_reads_82, wX6_reads_83, wX6_reads_84, wX6_reads_85, wX6_reads_86, wX6_reads_89, wX6_reads_90, wX6_reads_91, wX6_reads_94, wX6_reads_95, wX6_reads_96, wX6_reads_97, wX6_reads_100, wX6_reads_101, wX6_reads_102, wX6_reads_103, wX6_reads_104, wX6_reads_107, wX6_reads_108, wX6_reads_109, wX6_reads_112, wX6_reads_113, wX6_reads_114, wX6_reads_116, wX6_reads_119, wX6_reads_121, wX6_reads_124, wX6_reads_125, wX6_reads_128, wX6_reads_129, wX6_reads_130, wX6_reads_131, wX6_reads_132, wX6_reads_133, wX6_reads_134, wX6_reads_137, wX6_reads_138, wX6_reads_139, wX6_reads_140, uX6_reads_140, wX6_reads_141, wX6_reads_144, wX6_reads_145, wX6_reads_146, wX6_reads_149, wX6_reads_150, wX6_reads_151, wX6_reads_154, wX6_reads_155, wX6_reads_156, wX6_reads_157, wX6_reads_158, wX6_reads_159, wX6_reads_162, wX6_reads_163, wX6_reads_164, wX6_reads_167, wX6_reads_170, wX6_reads_171, wX6_reads_174, wX6_reads_175, wX6_reads_176, wX6_reads_177, wX6_reads_178, wX6_reads_179, wX6_reads_180, wX6_reads_181, wX6_reads_182, wX6_reads_183, wX6_reads_186, wX6_reads_187, wX6_reads_188, wX6_reads_189, uX6_reads_189, wX6_reads_190, wX6_reads_193, wX6_reads_194, wX6_reads_195, wX6_reads_196, wX6_reads_197, wX6_reads_200, wX6_reads_201, wX6_reads_202, wX6_reads_205, wX6_reads_206, wX6_reads_207, wX6_reads_208, wX6_reads_211, wX6_reads_212, wX6_reads_213, wX6_reads_214, wX6_reads_217, wX6_reads_220, amSI_1, amSI_2, amSI_3, amSI_s, amU_at, amIsR_ref, amIsR_null, amIsR_rf, amRf_some, amRf_none, amClr_int, amClr_ref, amClr_null, amClr_long, amClr_ra, amClr_rf, amFit_int, amFit_oref, amFit_aref, amFit_onull, amFit_anull, amOptSome, amOptNone, List.cons_append, List.nil_append, true_and, and_true, true_implies, not_true_eq_false, not_false_eq_true, false_implies, and_self, Nat.add_zero, Nat.zero_add, ne_eq, Prod.mk.injEq, amC01_0, amC01_1, amC01_nb, amNb0, amNb1, amTcpI_d, Nat.reduceLeDiff, Nat.reduceAdd, Nat.reduceSub, Nat.reduceEqDiff, Nat.le_refl, amN0le, hR.s, hR.r, amLeI, amLtI, amEqI, amLe0, amGt0, amEq0, amNotPosI, amGe0, amVI, amCl_nI, amAdd, amSub, amMul, m25, nx_not, tX6_has_d, nx_hasI, tb, q, gT, s1, i2, i3, z', z9, nx_p2, nx_or, amU_ne]
            exact this
      · have gF : (metW S.prior words j = true) = False := eq_false g
        have gf : metW S.prior words j = false := by simpa using g
        have e : w1 D.1 S.prior words p j = D.1 j := by unfold w1; rw [if_neg g]
        have e1 : bitsOf (freshB D.1 S.prior words) (j + 1) = bitsOf (freshB D.1 S.prior words) j := by rw [bitsOf, if_neg (by simp [freshB, gf])]; simp
        have e2 : bitsOf (againB D.1 S.prior words) (j + 1) = bitsOf (againB D.1 S.prior words) j := by rw [bitsOf, if_neg (by simp [againB, gf])]; simp
        have := at140 m (by
          rw [e1, e2]
          refine ii.wd (fun i hi => ?_)
          by_cases r : i < j
          · rw [if_pos r, if_pos r]
          · by_cases r2 : i = j
            · subst r2; rw [if_neg r, if_pos rfl, if_neg r, e]
            · rw [if_neg r, if_neg r2, if_neg r])
        refine goX6_reads hF 80 ?_
        simp (disch := omega) only [wX6_reads_0, uX6_reads_0, wX6_reads_1, wX6_reads_4, wX6_reads_5, wX6_reads_6, wX6_reads_7, wX6_reads_8, wX6_reads_11, wX6_reads_12, wX6_reads_13, wX6_reads_14, wX6_reads_15, wX6_reads_18, wX6_reads_19, wX6_reads_20, wX6_reads_21, wX6_reads_22, wX6_reads_25, wX6_reads_26, wX6_reads_27, wX6_reads_28, wX6_reads_29, wX6_reads_30, uX6_reads_30, wX6_reads_31, wX6_reads_33, wX6_reads_36, wX6_reads_37, wX6_reads_38, wX6_reads_41, wX6_reads_42, wX6_reads_43, wX6_reads_44, wX6_reads_45, wX6_reads_46, wX6_reads_47, wX6_reads_50, wX6_reads_53, wX6_reads_54, wX6_reads_57, wX6_reads_58, wX6_reads_59, wX6_reads_60, wX6_reads_61, wX6_reads_64, wX6_reads_65, wX6_reads_66, wX6_reads_69, wX6_reads_70, wX6_reads_71, wX6_reads_72, wX6_reads_75, wX6_reads_76, wX6_reads_77, wX6_reads_78, wX6_reads_79, wX6_reads_82, wX6_reads_83, wX6_reads_84, wX6_reads_85, wX6_reads_86, wX6_reads_89, wX6_reads_90, wX6_reads_91, wX6_reads_94, wX6_reads_95, wX6_reads_96, wX6_reads_97, wX6_reads_100, wX6_reads_101, wX6_reads_102, wX6_reads_103, wX6_reads_104, wX6_reads_107, wX6_reads_108, wX6_reads_109, wX6_reads_112, wX6_reads_113, wX6_reads_114, wX6_reads_116, wX6_reads_119, wX6_reads_121, wX6_reads_124, wX6_reads_125, wX6_reads_128, wX6_reads_129, wX6_reads_130, wX6_reads_131, wX6_reads_132, wX6_reads_133, wX6_reads_134, wX6_reads_137, wX6_reads_138, wX6_reads_139, wX6_reads_140, uX6_reads_140, wX6_reads_141, wX6_reads_144, wX6_reads_145, wX6_reads_146, wX6_reads_149, wX6_reads_150, wX6_reads_151, wX6_reads_154, wX6_reads_155, wX6_reads_156, wX6_reads_157, wX6_reads_158, wX6_reads_159, wX6_reads_162, wX6_reads_163, wX6_reads_164, wX6_reads_167, wX6_reads_170, wX6_reads_171, wX6_reads_174, wX6_reads_175, wX6_reads_176, wX6_reads_177, wX6_reads_178, wX6_reads_179, wX6_reads_180, wX6_reads_181, wX6_reads_182, wX6_reads_183, wX6_reads_186, wX6_reads_187, wX6_reads_188, wX6_reads_189, uX6_reads_189, wX6_reads_190, wX6_reads_193, wX6_reads_194, wX6_reads_195, wX6_reads_196, wX6_reads_197, wX6_reads_200, wX6_reads_201, wX6_reads_202, wX6_reads_205, wX6_reads_206, wX6_reads_207, wX6_reads_208, wX6_reads_211, wX6_reads_212, wX6_reads_213, wX6_reads_214, wX6_reads_217, wX6_reads_220, amSI_1, amSI_2, amSI_3, amSI_s, amU_at, amIsR_ref, amIsR_null, amIsR_rf, amRf_some, amRf_none, amClr_int, amClr_ref, amClr_null, amClr_long, amClr_ra, amClr_rf, amFit_int, amFit_oref, amFit_aref, amFit_onull, amFit_anull, amOptSome, amOptNone, List.cons_append, List.nil_append, true_and, and_true, true_implies, not_true_eq_false, not_false_eq_true, false_implies, and_self, Nat.add_zero, Nat.zero_add, ne_eq, Prod.mk.injEq, amC01_0, amC01_1, amC01_nb, amNb0, amNb1, amTcpI_d, Nat.reduceLeDiff, Nat.reduceAdd, Nat.reduceSub, Nat.reduceEqDiff, Nat.le_refl, amN0le, hR.s, hR.r, amLeI, amLtI, amEqI, amLe0, amGt0, amEq0, amNotPosI, amGe0, amVI, amCl_nI, amAdd, amSub, amMul, m25, nx_not, tX6_has_d, nx_hasI, tb, q, gF]
        exact this
  refine goX6_reads hF 60 ?_
  simp (disch := omega) only [wX6_reads_0, uX6_reads_0, wX6_reads_1, wX6_reads_4, wX6_reads_5, wX6_reads_6, wX6_reads_7, wX6_reads_8, wX6_reads_11, wX6_reads_12, wX6_reads_13, wX6_reads_14, wX6_reads_15, wX6_reads_18, wX6_reads_19, wX6_reads_20, wX6_reads_21, wX6_reads_22, wX6_reads_25, wX6_reads_26, wX6_reads_27, wX6_reads_28, wX6_reads_29, wX6_reads_30, uX6_reads_30, wX6_reads_31, wX6_reads_33, wX6_reads_36, wX6_reads_37, wX6_reads_38, wX6_reads_41, wX6_reads_42, wX6_reads_43, wX6_reads_44, wX6_reads_45, wX6_reads_46, wX6_reads_47, wX6_reads_50, wX6_reads_53, wX6_reads_54, wX6_reads_57, wX6_reads_58, wX6_reads_59, wX6_reads_60, wX6_reads_61, wX6_reads_64, wX6_reads_65, wX6_reads_66, wX6_reads_69, wX6_reads_70, wX6_reads_71, wX6_reads_72, wX6_reads_75, wX6_reads_76, wX6_reads_77, wX6_reads_78, wX6_reads_79, wX6_reads_82, wX6_reads_83, wX6_reads_84, wX6_reads_85, wX6_reads_86, wX6_reads_89, wX6_reads_90, wX6_reads_91, wX6_reads_94, wX6_reads_95, wX6_reads_96, wX6_reads_97, wX6_reads_100, wX6_reads_101, wX6_reads_102, wX6_reads_103, wX6_reads_104, wX6_reads_107, wX6_reads_108, wX6_reads_109, wX6_reads_112, wX6_reads_113, wX6_reads_114, wX6_reads_116, wX6_reads_119, wX6_reads_121, wX6_reads_124, wX6_reads_125, wX6_reads_128, wX6_reads_129, wX6_reads_130, wX6_reads_131, wX6_reads_132, wX6_reads_133, wX6_reads_134, wX6_reads_137, wX6_reads_138, wX6_reads_139, wX6_reads_140, uX6_reads_140, wX6_reads_141, wX6_reads_144, wX6_reads_145, wX6_reads_146, wX6_reads_149, wX6_reads_150, wX6_reads_151, wX6_reads_154, wX6_reads_155, wX6_reads_156, wX6_reads_157, wX6_reads_158, wX6_reads_159, wX6_reads_162, wX6_reads_163, wX6_reads_164, wX6_reads_167, wX6_reads_170, wX6_reads_171, wX6_reads_174, wX6_reads_175, wX6_reads_176, wX6_reads_177, wX6_reads_178, wX6_reads_179, wX6_reads_180, wX6_reads_181, wX6_reads_182, wX6_reads_183, wX6_reads_186, wX6_reads_187, wX6_reads_188, wX6_reads_189, uX6_reads_189, wX6_reads_190, wX6_reads_193, wX6_reads_194, wX6_reads_195, wX6_reads_196, wX6_reads_197, wX6_reads_200, wX6_reads_201, wX6_reads_202, wX6_reads_205, wX6_reads_206, wX6_reads_207, wX6_reads_208, wX6_reads_211, wX6_reads_212, wX6_reads_213, wX6_reads_214, wX6_reads_217, wX6_reads_220, amSI_1, amSI_2, amSI_3, amSI_s, amU_at, amIsR_ref, amIsR_null, amIsR_rf, amRf_some, amRf_none, amClr_int, amClr_ref, amClr_null, amClr_long, amClr_ra, amClr_rf, amFit_int, amFit_oref, amFit_aref, amFit_onull, amFit_anull, amOptSome, amOptNone, List.cons_append, List.nil_append, true_and, and_true, true_implies, not_true_eq_false, not_false_eq_true, false_implies, and_self, Nat.add_zero, Nat.zero_add, ne_eq, Prod.mk.injEq, amC01_0, amC01_1, amC01_nb, amNb0, amNb1, amTcpI_d, Nat.reduceLeDiff, Nat.reduceAdd, Nat.reduceSub, Nat.reduceEqDiff, Nat.le_refl, amN0le, hR.s, hR.r, amLeI, amLtI, amEqI, amLe0, amGt0, amEq0, amNotPosI, amGe0, amVI, amCl_nI, amAdd, amSub, amMul]
  refine loop 20 0 _ (by omega) ⟨fun i hi => ?_, ?_, ?_, ?_, ?_, fun i hi q hq => ?_, fun i hi => ?_⟩
  · dsimp only
    rw [if_neg (Nat.not_lt_zero i)]
    simp (disch := omega) only [amU_at, amU_ne, amU_nj, amU_neR, up_ne, up_at, amSI_2]
    exact hD.1 i hi
  · simp (disch := omega) only [amU_at, amU_ne, amU_nj, amU_neR, up_ne, up_at, amSI_2]
    rfl
  · simp (disch := omega) only [amU_at, amU_ne, amU_nj, amU_neR, up_ne, up_at, amSI_2]
    rfl
  · simp (disch := omega) only [amU_at, amU_ne, amU_nj, amU_neR, up_ne, up_at, amSI_2]
    rfl
  · simp (disch := omega) only [amU_at, amU_ne, amU_nj, amU_neR, up_ne, up_at, amSI_2]
    rfl
  · simp (disch := omega) only [amU_at, amU_ne, amU_nj, amU_neR, up_ne, up_at, amSI_2]
  · simp (disch := omega) only [amU_at, amU_ne, amU_nj, amU_neR, up_ne, up_at, amSI_2]
theorem tX6_reads_d {a : Nat} {p0 w0 : Int32} {h : amH} {K : Option Value → amH → Prop} : tX6_reads [.ref a, .int p0, .int w0] h K = ∃ (S : HS) (D : RD) (words : Nat), a = (124 : Nat) ∧ mdAt h ∧ RwIs h.2.1 125 0 S ∧ hsB S ∧ rdOk D ∧ MrIs h.2.1 D ∧ D.2.length < 7 ∧ p0 = nI D.2.length ∧ w0 = nI words ∧ words < 1048576 ∧ ∀ m', MrIs m' (rdStep S.span S.rule S.prior D words) → mrFr h.2.1 m' → K none (amSI h m') := rfl
/-- an order laid -/
def MoIs (m : Nat → Nat → Int32) (l : List Nat) : Prop := ∀ p : Nat, p < l.length → m 134 p = nI (l.getD p 0)
theorem MoIs.kept {m m' : Nat → Nat → Int32} {l : List Nat} (h : MoIs m l) (e : m' 134 = m 134) : MoIs m' l := fun p hp => by rw [e]; exact h p hp
/-- all that a question of the order needs -/
def mdPre (h : amH) (S : HS) (l : List Nat) : Prop := mdAt h ∧ RwIs h.2.1 125 0 S ∧ hsB S ∧ setsB S ∧ S.bound ≤ 20 ∧ MoIs h.2.1 l ∧ l.length = S.ord.length ∧ ∀ x ∈ l, x < S.ord.length
def tX6_readsOrder : amT := fun as h K => match as with
  | [.ref a] => ∃ (S : HS) (l : List Nat), a = (124 : Nat) ∧ mdPre h S l ∧ ∀ m', MrIs m' (S.rd l 0) → mrFr h.2.1 m' → K none (amSI h m')
  | _ => False
/-! ReadingStagesModel.readsOrder()V -/
def kX6_readsOrder : Nat → Bool := fun pc => pc == 4 || pc == 6 || pc == 26
def rX6_readsOrder : List (Nat × amS) := [(1, 1, 0, 0, (amRecv 6 tX6_begins)), (8, 1, 0, 0, amTget 6 0), (20, 2, 0, 0, (amRecv 6 tX6_wordsAt)), (23, 3, 0, 0, (amRecv 6 tX6_reads))]
def eX6_readsOrder (ret : Option Value → amH → Nat → Nat → Prop) (F : amX) : Nat → amX := amWp cX6_readsOrder kX6_readsOrder (amLk rX6_readsOrder) none 0 0 ret F
def sX6_readsOrder (ret : Option Value → amH → Nat → Nat → Prop) (F : amX) : Nat → amX := amWs cX6_readsOrder kX6_readsOrder (amLk rX6_readsOrder) none 0 0 ret F
theorem wX6_readsOrder_0 {ret F n h} {v0 v1 st} : eX6_readsOrder ret F (n + 1) 0 [v0, v1] (st) h 0 0 = (amIsR v0 ∧ eX6_readsOrder ret F n 1 [v0, v1] (v0 :: st) h 0 0) := (amWp_dec rfl dX6_readsOrder_0 rfl).trans rfl
theorem uX6_readsOrder_0 {ret F n h} {v0 v1 st} : sX6_readsOrder ret F n 0 [v0, v1] (st) h 0 0 = (amIsR v0 ∧ eX6_readsOrder ret F n 1 [v0, v1] (v0 :: st) h 0 0) := (amWs_dec dX6_readsOrder_0 rfl).trans rfl
theorem wX6_readsOrder_1 {ret F n h} {v0 v1 x0} : eX6_readsOrder ret F (n + 1) 1 [v0, v1] (.ref x0 :: []) h 0 0 = (h.1 x0 = (0, 6) ∧ tX6_begins [.ref x0] h (fun v h => eX6_readsOrder ret F n 4 [v0, v1] (v.toList ++ ([])) h 0 0)) := (amWp_dec rfl dX6_readsOrder_1 rfl).trans (amS4 (Nat.le_of_ble_eq_true rfl) (Nat.le_of_ble_eq_true rfl) (Nat.le_of_ble_eq_true rfl) (Nat.le_of_ble_eq_true rfl))
theorem wX6_readsOrder_4 {ret F n ls st h k z} : eX6_readsOrder ret F (n + 1) 4 ls st h k z = F 4 ls st h k z := amWp_cut rfl
theorem uX6_readsOrder_4 {ret F n h} {v0 v1 st} : sX6_readsOrder ret F n 4 [v0, v1] (st) h 0 0 = (eX6_readsOrder ret F n 5 [v0, v1] (.int (nI 0) :: st) h 0 0) := (amWs_dec dX6_readsOrder_4 rfl).trans rfl
theorem wX6_readsOrder_5 {ret F n h} {v0 v1 st x} : eX6_readsOrder ret F (n + 1) 5 [v0, v1] (.int x :: st) h 0 0 = (eX6_readsOrder ret F n 6 [amClr v0, .int x] (st) h 0 0) := (amWp_dec rfl dX6_readsOrder_5 rfl).trans (amTrue (Nat.le_of_ble_eq_true rfl))
theorem wX6_readsOrder_6 {ret F n ls st h k z} : eX6_readsOrder ret F (n + 1) 6 ls st h k z = F 6 ls st h k z := amWp_cut rfl
theorem uX6_readsOrder_6 {ret F n h} {v0 st x} : sX6_readsOrder ret F n 6 [v0, .int x] (st) h 0 0 = (eX6_readsOrder ret F n 7 [v0, .int x] (.int x :: st) h 0 0) := (amWs_dec dX6_readsOrder_6 rfl).trans rfl
theorem wX6_readsOrder_7 {ret F n h} {v0 v1 st} : eX6_readsOrder ret F (n + 1) 7 [v0, v1] (st) h 0 0 = (amIsR v0 ∧ eX6_readsOrder ret F n 8 [v0, v1] (v0 :: st) h 0 0) := (amWp_dec rfl dX6_readsOrder_7 rfl).trans rfl
theorem wX6_readsOrder_8 {ret F n h} {v0 v1 r0 a} : eX6_readsOrder ret F (n + 1) 8 [v0, v1] (.ref a :: r0 :: []) h 0 0 = (h.1 a = (0, 6) ∧ eX6_readsOrder ret F n 11 [v0, v1] (va_rf (h.2.2.2.1 a 0) :: r0 :: []) h 0 0) := (amWp_dec rfl dX6_readsOrder_8 rfl).trans (amS4 (Nat.le_of_ble_eq_true rfl) (Nat.le_of_ble_eq_true rfl) (Nat.le_of_ble_eq_true rfl) (Nat.le_of_ble_eq_true rfl))
theorem wX6_readsOrder_11 {ret F n h} {v0 v1 st} : eX6_readsOrder ret F (n + 1) 11 [v0, v1] (st) h 0 0 = (eX6_readsOrder ret F n 12 [v0, v1] (.int (nI 0) :: st) h 0 0) := (amWp_dec rfl dX6_readsOrder_11 rfl).trans rfl
theorem wX6_readsOrder_12 {ret F n h} {v0 v1 st x a} : eX6_readsOrder ret F (n + 1) 12 [v0, v1] (.int x :: .ref a :: st) h 0 0 = ((h.1 a).1 = 1 ∧ vp_in x (h.1 a).2 ∧ eX6_readsOrder ret F n 13 [v0, v1] (.int (h.2.1 a x.toNatClampNeg) :: st) h 0 0) := (amWp_dec rfl dX6_readsOrder_12 rfl).trans rfl
theorem wX6_readsOrder_13 {ret F n h} {v0 v1 st y x} : eX6_readsOrder ret F (n + 1) 13 [v0, v1] (.int y :: .int x :: st) h 0 0 = ((y ≤ x → eX6_readsOrder ret F n 32 [v0, v1] (st) h 0 0) ∧ (¬ y ≤ x → eX6_readsOrder ret F n 16 [v0, v1] (st) h 0 0)) := (amWp_dec rfl dX6_readsOrder_13 rfl).trans rfl
theorem wX6_readsOrder_16 {ret F n h} {v0 v1 st} : eX6_readsOrder ret F (n + 1) 16 [v0, v1] (st) h 0 0 = (amIsR v0 ∧ eX6_readsOrder ret F n 17 [v0, v1] (v0 :: st) h 0 0) := (amWp_dec rfl dX6_readsOrder_16 rfl).trans rfl
theorem wX6_readsOrder_17 {ret F n h} {v0 st x} : eX6_readsOrder ret F (n + 1) 17 [v0, .int x] (st) h 0 0 = (eX6_readsOrder ret F n 18 [v0, .int x] (.int x :: st) h 0 0) := (amWp_dec rfl dX6_readsOrder_17 rfl).trans rfl
theorem wX6_readsOrder_18 {ret F n h} {v0 v1 st} : eX6_readsOrder ret F (n + 1) 18 [v0, v1] (st) h 0 0 = (amIsR v0 ∧ eX6_readsOrder ret F n 19 [v0, v1] (v0 :: st) h 0 0) := (amWp_dec rfl dX6_readsOrder_18 rfl).trans rfl
theorem wX6_readsOrder_19 {ret F n h} {v0 st x} : eX6_readsOrder ret F (n + 1) 19 [v0, .int x] (st) h 0 0 = (eX6_readsOrder ret F n 20 [v0, .int x] (.int x :: st) h 0 0) := (amWp_dec rfl dX6_readsOrder_19 rfl).trans rfl
theorem wX6_readsOrder_20 {ret F n h} {v0 v1 x1 x0 r0 r1} : eX6_readsOrder ret F (n + 1) 20 [v0, v1] (.int x1 :: .ref x0 :: r0 :: r1 :: []) h 0 0 = (h.1 x0 = (0, 6) ∧ tX6_wordsAt [.ref x0, .int x1] h (fun v h => eX6_readsOrder ret F n 23 [v0, v1] (v.toList ++ (r0 :: r1 :: [])) h 0 0)) := (amWp_dec rfl dX6_readsOrder_20 rfl).trans (amS4 (Nat.le_of_ble_eq_true rfl) (Nat.le_of_ble_eq_true rfl) (Nat.le_of_ble_eq_true rfl) (Nat.le_of_ble_eq_true rfl))
theorem wX6_readsOrder_23 {ret F n h} {v0 v1 x2 x1 x0} : eX6_readsOrder ret F (n + 1) 23 [v0, v1] (.int x2 :: .int x1 :: .ref x0 :: []) h 0 0 = (h.1 x0 = (0, 6) ∧ tX6_reads [.ref x0, .int x1, .int x2] h (fun v h => eX6_readsOrder ret F n 26 [v0, v1] (v.toList ++ ([])) h 0 0)) := (amWp_dec rfl dX6_readsOrder_23 rfl).trans (amS4 (Nat.le_of_ble_eq_true rfl) (Nat.le_of_ble_eq_true rfl) (Nat.le_of_ble_eq_true rfl) (Nat.le_of_ble_eq_true rfl))
theorem wX6_readsOrder_26 {ret F n ls st h k z} : eX6_readsOrder ret F (n + 1) 26 ls st h k z = F 26 ls st h k z := amWp_cut rfl
theorem uX6_readsOrder_26 {ret F n h} {v0 st x} : sX6_readsOrder ret F n 26 [v0, .int x] (st) h 0 0 = (eX6_readsOrder ret F n 29 [amClr v0, .int (x + nI 1)] (st) h 0 0) := (amWs_dec dX6_readsOrder_26 rfl).trans rfl
theorem wX6_readsOrder_29 {ret F n h} {v0 v1 st} : eX6_readsOrder ret F (n + 1) 29 [v0, v1] (st) h 0 0 = (eX6_readsOrder ret F n 6 [v0, v1] (st) h 0 0) := (amWp_dec rfl dX6_readsOrder_29 rfl).trans rfl
theorem wX6_readsOrder_32 {ret F n h} {v0 v1} : eX6_readsOrder ret F (n + 1) 32 [v0, v1] ([]) h 0 0 = (ret none h 0 0) := (amWp_dec rfl dX6_readsOrder_32 rfl).trans (amTrue rfl)
theorem evX6_readsOrder (l : Launch) (G : amG) : ∀ pc S i sz, amLk rX6_readsOrder pc = some S → decode cX6_readsOrder pc = .ok (i, sz) → amSiteP pc G l yX6_readsOrder.cls yX6_readsOrder.name yX6_readsOrder.desc (amRm 3 0 0) i sz S.1 S.2.1 S.2.2.1 S.2.2.2 := amLk_ok (by
  refine List.forall_mem_cons.mpr ⟨⟨_, _, dX6_readsOrder_1, amSite.P (amSiteV (C := RX6) (metX6_begins l G) rfl (by decide) (by decide) (lw_V q1392 q1394 qs42 q94 q1395) ⟨_, rfl, rfl⟩ ⟨rfl, by decide +kernel, by decide +kernel, by decide +kernel⟩)⟩, ?_⟩
  refine List.forall_mem_cons.mpr ⟨⟨_, _, dX6_readsOrder_8, amSite.P (amSiteGet ⟨_, rfl, by decide, Or.inl q1295⟩)⟩, ?_⟩
  refine List.forall_mem_cons.mpr ⟨⟨_, _, dX6_readsOrder_20, amSite.P (amSiteV (C := RX6) (metX6_wordsAt l G) rfl (by decide) (by decide) (lw_V q1396 q1398 qs43 q94 q1399) ⟨_, rfl, rfl⟩ ⟨rfl, by decide +kernel, by decide +kernel, by decide +kernel⟩)⟩, ?_⟩
  refine List.forall_mem_cons.mpr ⟨⟨_, _, dX6_readsOrder_23, amSite.P (amSiteV (C := RX6) (metX6_reads l G) rfl (by decide) (by decide) (lw_V q1400 q1402 qs44 q94 q1403) ⟨_, rfl, rfl⟩ ⟨rfl, by decide +kernel, by decide +kernel, by decide +kernel⟩)⟩, ?_⟩
  exact fun _ h => absurd h List.not_mem_nil)
theorem goX6_readsOrder {ret F} (hF : amCld cX6_readsOrder kX6_readsOrder (amLk rX6_readsOrder) none 0 0 ret F) (n : Nat) {pc ls st h k z} (q : sX6_readsOrder ret F n pc ls st h k z) : F pc ls st h k z := hF.1 n pc ls st h k z q
theorem metX6_readsOrder (l : Launch) (G : amG) : amMet l G yX6_readsOrder (ws_ yX6_readsOrder cX6_readsOrder 2 none) 3 0 0 tX6_readsOrder := by
  refine amMet_of (cut := kX6_readsOrder) (by decide +kernel) (evX6_readsOrder l G) ?_
  intro as h K hT
  match as, hT with
  | [.ref a], ⟨S, l, e, ⟨hR, hS, hB, hX, hb20, hl, hn, hx⟩, hK⟩ =>
  refine ⟨Nat.le_of_ble_eq_true rfl, fun F hF => ?_⟩
  show F 0 [.ref a, .retAddr 0] [] h 0 0
  obtain ⟨a, rfl⟩ : ∃ i : Nat, i = a := ⟨_, rfl⟩
  subst e
  have n7 := hS.n7
  have hn0 : h.2.1 125 0 = nI S.ord.length := hS.n
  have loop : ∀ t p m, p + t = l.length → MrIs m (rdOf S.span S.rule S.prior ((wsOf S l 0).take p)) → mrFr h.2.1 m → F 6 [.ref 124, .int (nI p)] [] (amSI h m) 0 0 := by
    intro t
    induction t with
    | zero =>
      intro p m e1 i1 i2
      have e : p = l.length := by omega
      subst e
      rw [List.take_of_length_le (by rw [wsOf_len]; exact Nat.le_refl _)] at i1
      have mn : m 125 0 = nI S.ord.length := by rw [i2 125 (by omega)]; exact hn0
      rw [← hn] at mn
      refine goX6_readsOrder hF 30 ?_
      simp (disch := omega) only [wX6_readsOrder_0, uX6_readsOrder_0, wX6_readsOrder_1, wX6_readsOrder_4, uX6_readsOrder_4, wX6_readsOrder_5, wX6_readsOrder_6, uX6_readsOrder_6, wX6_readsOrder_7, wX6_readsOrder_8, wX6_readsOrder_11, wX6_readsOrder_12, wX6_readsOrder_13, wX6_readsOrder_16, wX6_readsOrder_17, wX6_readsOrder_18, wX6_readsOrder_19, wX6_readsOrder_20, wX6_readsOrder_23, wX6_readsOrder_26, uX6_readsOrder_26, wX6_readsOrder_29, wX6_readsOrder_32, amSI_1, amSI_2, amSI_3, amSI_s, amU_at, amIsR_ref, amIsR_null, amIsR_rf, amRf_some, amRf_none, amClr_int, amClr_ref, amClr_null, amClr_long, amClr_ra, amClr_rf, amFit_int, amFit_oref, amFit_aref, amFit_onull, amFit_anull, amOptSome, amOptNone, List.cons_append, List.nil_append, true_and, and_true, true_implies, not_true_eq_false, not_false_eq_true, false_implies, and_self, Nat.add_zero, Nat.zero_add, ne_eq, Prod.mk.injEq, amC01_0, amC01_1, amC01_nb, amNb0, amNb1, amTcpI_d, Nat.reduceLeDiff, Nat.reduceAdd, Nat.reduceSub, Nat.reduceEqDiff, Nat.le_refl, amN0le, hR.s, hR.r, amLeI, amLtI, amEqI, amLe0, amGt0, amEq0, amNotPosI, amGe0, amVI, amCl_nI, amAdd, amSub, amMul, mn]
      exact amRet.of (by decide) (by decide) (hK m i1 i2)
    | succ t ih =>
      intro p m e1 i1 i2
      have q : (S.ord.length ≤ p) = False := eq_false (by omega)
      have mn : m 125 0 = nI S.ord.length := by rw [i2 125 (by omega)]; exact hn0
      have hS' : RwIs m 125 0 S := hS.kept (i2 125 (by omega))
      have mo : m 134 p = nI (l.getD p 0) := by rw [i2 134 (by omega)]; exact hl p (by omega)
      have hxp := hx _ (getD_mem (l := l) (p := p) (by omega))
      have len : (rdOf S.span S.rule S.prior ((wsOf S l 0).take p)).2.length = p := by rw [rdOf_len, List.length_take, wsOf_len]; omega
      have ew : (wsOf S l 0).getD p 0 = S.sets.getD (l.getD p 0) 0 := by rw [wsOf_at _ _ _ _ (by omega), if_neg (by simp)]
      refine goX6_readsOrder hF 30 ?_
      simp (disch := omega) only [wX6_readsOrder_0, uX6_readsOrder_0, wX6_readsOrder_1, wX6_readsOrder_4, uX6_readsOrder_4, wX6_readsOrder_5, wX6_readsOrder_6, uX6_readsOrder_6, wX6_readsOrder_7, wX6_readsOrder_8, wX6_readsOrder_11, wX6_readsOrder_12, wX6_readsOrder_13, wX6_readsOrder_16, wX6_readsOrder_17, wX6_readsOrder_18, wX6_readsOrder_19, wX6_readsOrder_20, wX6_readsOrder_23, wX6_readsOrder_26, uX6_readsOrder_26, wX6_readsOrder_29, wX6_readsOrder_32, amSI_1, amSI_2, amSI_3, amSI_s, amU_at, amIsR_ref, amIsR_null, amIsR_rf, amRf_some, amRf_none, amClr_int, amClr_ref, amClr_null, amClr_long, amClr_ra, amClr_rf, amFit_int, amFit_oref, amFit_aref, amFit_onull, amFit_anull, amOptSome, amOptNone, List.cons_append, List.nil_append, true_and, and_true, true_implies, not_true_eq_false, not_false_eq_true, false_implies, and_self, Nat.add_zero, Nat.zero_add, ne_eq, Prod.mk.injEq, amC01_0, amC01_1, amC01_nb, amNb0, amNb1, amTcpI_d, Nat.reduceLeDiff, Nat.reduceAdd, Nat.reduceSub, Nat.reduceEqDiff, Nat.le_refl, amN0le, hR.s, hR.r, amLeI, amLtI, amEqI, amLe0, amGt0, amEq0, amNotPosI, amGe0, amVI, amCl_nI, amAdd, amSub, amMul, mn, q, tX6_wordsAt_d]
      refine ⟨S, p, _, hR, hS', rfl, by omega, mo, hxp, ?_⟩
      simp (disch := omega) only [wX6_readsOrder_0, uX6_readsOrder_0, wX6_readsOrder_1, wX6_readsOrder_4, uX6_readsOrder_4, wX6_readsOrder_5, wX6_readsOrder_6, uX6_readsOrder_6, wX6_readsOrder_7, wX6_readsOrder_8, wX6_readsOrder_11, wX6_readsOrder_12, wX6_readsOrder_13, wX6_readsOrder_16, wX6_readsOrder_17, wX6_readsOrder_18, wX6_readsOrder_19, wX6_readsOrder_20, wX6_readsOrder_23, wX6_readsOrder_26, uX6_readsOrder_26, wX6_readsOrder_29, wX6_readsOrder_32, amSI_1, amSI_2, amSI_3, amSI_s, amU_at, amIsR_ref, amIsR_null, amIsR_rf, amRf_some, amRf_none, amClr_int, amClr_ref, amClr_null, amClr_long, amClr_ra, amClr_rf, amFit_int, amFit_oref, amFit_aref, amFit_onull, amFit_anull, amOptSome, amOptNone, List.cons_append, List.nil_append, true_and, and_true, true_implies, not_true_eq_false, not_false_eq_true, false_implies, and_self, Nat.add_zero, Nat.zero_add, ne_eq, Prod.mk.injEq, amC01_0, amC01_1, amC01_nb, amNb0, amNb1, amTcpI_d, Nat.reduceLeDiff, Nat.reduceAdd, Nat.reduceSub, Nat.reduceEqDiff, Nat.le_refl, amN0le, hR.s, hR.r, amLeI, amLtI, amEqI, amLe0, amGt0, amEq0, amNotPosI, amGe0, amVI, amCl_nI, amAdd, amSub, amMul, tX6_reads_d]
      refine ⟨S, _, _, hR, hS', hB, rdOf_ok _ _ _ _, i1, by rw [len]; omega, by rw [len], rfl, hX.at _, fun m' q1 q2 => ?_⟩
      rw [← ew, ← rdOf_take (by rw [wsOf_len]; omega)] at q1
      have := ih (p + 1) m' (by omega) q1 (fun i hi => (q2 i hi).trans (i2 i hi))
      refine goX6_readsOrder hF 30 ?_
      simp (disch := omega) only [wX6_readsOrder_0, uX6_readsOrder_0, wX6_readsOrder_1, wX6_readsOrder_4, uX6_readsOrder_4, wX6_readsOrder_5, wX6_readsOrder_6, uX6_readsOrder_6, wX6_readsOrder_7, wX6_readsOrder_8, wX6_readsOrder_11, wX6_readsOrder_12, wX6_readsOrder_13, wX6_readsOrder_16, wX6_readsOrder_17, wX6_readsOrder_18, wX6_readsOrder_19, wX6_readsOrder_20, wX6_readsOrder_23, wX6_readsOrder_26, uX6_readsOrder_26, wX6_readsOrder_29, wX6_readsOrder_32, amSI_1, amSI_2, amSI_3, amSI_s, amU_at, amIsR_ref, amIsR_null, amIsR_rf, amRf_some, amRf_none, amClr_int, amClr_ref, amClr_null, amClr_long, amClr_ra, amClr_rf, amFit_int, amFit_oref, amFit_aref, amFit_onull, amFit_anull, amOptSome, amOptNone, List.cons_append, List.nil_append, true_and, and_true, true_implies, not_true_eq_false, not_false_eq_true, false_implies, and_self, Nat.add_zero, Nat.zero_add, ne_eq, Prod.mk.injEq, amC01_0, amC01_1, amC01_nb, amNb0, amNb1, amTcpI_d, Nat.reduceLeDiff, Nat.reduceAdd, Nat.reduceSub, Nat.reduceEqDiff, Nat.le_refl, amN0le, hR.s, hR.r, amLeI, amLtI, amEqI, amLe0, amGt0, amEq0, amNotPosI, amGe0, amVI, amCl_nI, amAdd, amSub, amMul]
      exact this
  refine goX6_readsOrder hF 30 ?_
  simp (disch := omega) only [wX6_readsOrder_0, uX6_readsOrder_0, wX6_readsOrder_1, wX6_readsOrder_4, uX6_readsOrder_4, wX6_readsOrder_5, wX6_readsOrder_6, uX6_readsOrder_6, wX6_readsOrder_7, wX6_readsOrder_8, wX6_readsOrder_11, wX6_readsOrder_12, wX6_readsOrder_13, wX6_readsOrder_16, wX6_readsOrder_17, wX6_readsOrder_18, wX6_readsOrder_19, wX6_readsOrder_20, wX6_readsOrder_23, wX6_readsOrder_26, uX6_readsOrder_26, wX6_readsOrder_29, wX6_readsOrder_32, amSI_1, amSI_2, amSI_3, amSI_s, amU_at, amIsR_ref, amIsR_null, amIsR_rf, amRf_some, amRf_none, amClr_int, amClr_ref, amClr_null, amClr_long, amClr_ra, amClr_rf, amFit_int, amFit_oref, amFit_aref, amFit_onull, amFit_anull, amOptSome, amOptNone, List.cons_append, List.nil_append, true_and, and_true, true_implies, not_true_eq_false, not_false_eq_true, false_implies, and_self, Nat.add_zero, Nat.zero_add, ne_eq, Prod.mk.injEq, amC01_0, amC01_1, amC01_nb, amNb0, amNb1, amTcpI_d, Nat.reduceLeDiff, Nat.reduceAdd, Nat.reduceSub, Nat.reduceEqDiff, Nat.le_refl, amN0le, hR.s, hR.r, amLeI, amLtI, amEqI, amLe0, amGt0, amEq0, amNotPosI, amGe0, amVI, amCl_nI, amAdd, amSub, amMul, tX6_begins_d]
  refine ⟨hR, fun m' q1 q2 => ?_⟩
  refine goX6_readsOrder hF 30 ?_
  simp (disch := omega) only [wX6_readsOrder_0, uX6_readsOrder_0, wX6_readsOrder_1, wX6_readsOrder_4, uX6_readsOrder_4, wX6_readsOrder_5, wX6_readsOrder_6, uX6_readsOrder_6, wX6_readsOrder_7, wX6_readsOrder_8, wX6_readsOrder_11, wX6_readsOrder_12, wX6_readsOrder_13, wX6_readsOrder_16, wX6_readsOrder_17, wX6_readsOrder_18, wX6_readsOrder_19, wX6_readsOrder_20, wX6_readsOrder_23, wX6_readsOrder_26, uX6_readsOrder_26, wX6_readsOrder_29, wX6_readsOrder_32, amSI_1, amSI_2, amSI_3, amSI_s, amU_at, amIsR_ref, amIsR_null, amIsR_rf, amRf_some, amRf_none, amClr_int, amClr_ref, amClr_null, amClr_long, amClr_ra, amClr_rf, amFit_int, amFit_oref, amFit_aref, amFit_onull, amFit_anull, amOptSome, amOptNone, List.cons_append, List.nil_append, true_and, and_true, true_implies, not_true_eq_false, not_false_eq_true, false_implies, and_self, Nat.add_zero, Nat.zero_add, ne_eq, Prod.mk.injEq, amC01_0, amC01_1, amC01_nb, amNb0, amNb1, amTcpI_d, Nat.reduceLeDiff, Nat.reduceAdd, Nat.reduceSub, Nat.reduceEqDiff, Nat.le_refl, amN0le, hR.s, hR.r, amLeI, amLtI, amEqI, amLe0, amGt0, amEq0, amNotPosI, amGe0, amVI, amCl_nI, amAdd, amSub, amMul]
  exact loop l.length 0 m' (by omega) ⟨fun w hw => ⟨q1 w hw, fun z => absurd z (Nat.lt_irrefl 0)⟩, fun p hp => absurd hp (Nat.not_lt_zero p)⟩ (fun i hi => q2 i (by omega))
theorem tX6_readsOrder_d {a : Nat} {h : amH} {K : Option Value → amH → Prop} : tX6_readsOrder [.ref a] h K = ∃ (S : HS) (l : List Nat), a = (124 : Nat) ∧ mdPre h S l ∧ ∀ m', MrIs m' (S.rd l 0) → mrFr h.2.1 m' → K none (amSI h m') := rfl
theorem mdPre.fr {h : amH} {S : HS} {l : List Nat} {m : Nat → Nat → Int32} (q : mdPre h S l) (f : mrFr h.2.1 m) : mdPre (amSI h m) S l := ⟨q.1, q.2.1.kept (f 125 (by omega)), q.2.2.1, q.2.2.2.1, q.2.2.2.2.1, q.2.2.2.2.2.1.kept (f 134 (by omega)), q.2.2.2.2.2.2⟩
def tX6_peak : amT := fun as h K => match as with
  | [.ref a] => ∃ l : List PL, a = (124 : Nat) ∧ mdAt h ∧ h.2.1 125 0 = nI l.length ∧ l.length ≤ 7 ∧ (∀ p : Nat, p < l.length → h.2.1 137 p = nI (l.getD p PL0).1 ∧ (l.getD p PL0).1 < 1048576) ∧ K (some (.int (nI (peakL l)))) h
  | _ => False
/-! ReadingStagesModel.peak()I -/
def kX6_peak : Nat → Bool := fun pc => pc == 4
def rX6_peak : List (Nat × amS) := [(6, 1, 0, 0, amTget 6 0), (15, 1, 0, 0, amTget 6 15), (20, 1, 0, 0, tX6_sizeOf), (28, 1, 0, 0, amTget 6 15), (33, 1, 0, 0, tX6_sizeOf)]
def eX6_peak (ret : Option Value → amH → Nat → Nat → Prop) (F : amX) : Nat → amX := amWp cX6_peak kX6_peak (amLk rX6_peak) (some .int) 0 0 ret F
def sX6_peak (ret : Option Value → amH → Nat → Nat → Prop) (F : amX) : Nat → amX := amWs cX6_peak kX6_peak (amLk rX6_peak) (some .int) 0 0 ret F
theorem wX6_peak_0 {ret F n h} {v0 v1 v2 st} : eX6_peak ret F (n + 1) 0 [v0, v1, v2] (st) h 0 0 = (eX6_peak ret F n 1 [v0, v1, v2] (.int (nI 0) :: st) h 0 0) := (amWp_dec rfl dX6_peak_0 rfl).trans rfl
theorem uX6_peak_0 {ret F n h} {v0 v1 v2 st} : sX6_peak ret F n 0 [v0, v1, v2] (st) h 0 0 = (eX6_peak ret F n 1 [v0, v1, v2] (.int (nI 0) :: st) h 0 0) := (amWs_dec dX6_peak_0 rfl).trans rfl
theorem wX6_peak_1 {ret F n h} {v0 v1 v2 st x} : eX6_peak ret F (n + 1) 1 [v0, v1, v2] (.int x :: st) h 0 0 = (eX6_peak ret F n 2 [amClr v0, .int x, v2] (st) h 0 0) := (amWp_dec rfl dX6_peak_1 rfl).trans (amTrue (Nat.le_of_ble_eq_true rfl))
theorem wX6_peak_2 {ret F n h} {v0 v1 v2 st} : eX6_peak ret F (n + 1) 2 [v0, v1, v2] (st) h 0 0 = (eX6_peak ret F n 3 [v0, v1, v2] (.int (nI 0) :: st) h 0 0) := (amWp_dec rfl dX6_peak_2 rfl).trans rfl
theorem wX6_peak_3 {ret F n h} {v0 v1 v2 st x} : eX6_peak ret F (n + 1) 3 [v0, v1, v2] (.int x :: st) h 0 0 = (eX6_peak ret F n 4 [v0, amClr v1, .int x] (st) h 0 0) := (amWp_dec rfl dX6_peak_3 rfl).trans (amTrue (Nat.le_of_ble_eq_true rfl))
theorem wX6_peak_4 {ret F n ls st h k z} : eX6_peak ret F (n + 1) 4 ls st h k z = F 4 ls st h k z := amWp_cut rfl
theorem uX6_peak_4 {ret F n h} {v0 v1 st x} : sX6_peak ret F n 4 [v0, v1, .int x] (st) h 0 0 = (eX6_peak ret F n 5 [v0, v1, .int x] (.int x :: st) h 0 0) := (amWs_dec dX6_peak_4 rfl).trans rfl
theorem wX6_peak_5 {ret F n h} {v0 v1 v2 st} : eX6_peak ret F (n + 1) 5 [v0, v1, v2] (st) h 0 0 = (amIsR v0 ∧ eX6_peak ret F n 6 [v0, v1, v2] (v0 :: st) h 0 0) := (amWp_dec rfl dX6_peak_5 rfl).trans rfl
theorem wX6_peak_6 {ret F n h} {v0 v1 v2 r0 a} : eX6_peak ret F (n + 1) 6 [v0, v1, v2] (.ref a :: r0 :: []) h 0 0 = (h.1 a = (0, 6) ∧ eX6_peak ret F n 9 [v0, v1, v2] (va_rf (h.2.2.2.1 a 0) :: r0 :: []) h 0 0) := (amWp_dec rfl dX6_peak_6 rfl).trans (amS4 (Nat.le_of_ble_eq_true rfl) (Nat.le_of_ble_eq_true rfl) (Nat.le_of_ble_eq_true rfl) (Nat.le_of_ble_eq_true rfl))
theorem wX6_peak_9 {ret F n h} {v0 v1 v2 st} : eX6_peak ret F (n + 1) 9 [v0, v1, v2] (st) h 0 0 = (eX6_peak ret F n 10 [v0, v1, v2] (.int (nI 0) :: st) h 0 0) := (amWp_dec rfl dX6_peak_9 rfl).trans rfl
theorem wX6_peak_10 {ret F n h} {v0 v1 v2 st x a} : eX6_peak ret F (n + 1) 10 [v0, v1, v2] (.int x :: .ref a :: st) h 0 0 = ((h.1 a).1 = 1 ∧ vp_in x (h.1 a).2 ∧ eX6_peak ret F n 11 [v0, v1, v2] (.int (h.2.1 a x.toNatClampNeg) :: st) h 0 0) := (amWp_dec rfl dX6_peak_10 rfl).trans rfl
theorem wX6_peak_11 {ret F n h} {v0 v1 v2 st y x} : eX6_peak ret F (n + 1) 11 [v0, v1, v2] (.int y :: .int x :: st) h 0 0 = ((y ≤ x → eX6_peak ret F n 47 [v0, v1, v2] (st) h 0 0) ∧ (¬ y ≤ x → eX6_peak ret F n 14 [v0, v1, v2] (st) h 0 0)) := (amWp_dec rfl dX6_peak_11 rfl).trans rfl
theorem wX6_peak_14 {ret F n h} {v0 v1 v2 st} : eX6_peak ret F (n + 1) 14 [v0, v1, v2] (st) h 0 0 = (amIsR v0 ∧ eX6_peak ret F n 15 [v0, v1, v2] (v0 :: st) h 0 0) := (amWp_dec rfl dX6_peak_14 rfl).trans rfl
theorem wX6_peak_15 {ret F n h} {v0 v1 v2 a} : eX6_peak ret F (n + 1) 15 [v0, v1, v2] (.ref a :: []) h 0 0 = (h.1 a = (0, 6) ∧ eX6_peak ret F n 18 [v0, v1, v2] (va_rf (h.2.2.2.1 a 15) :: []) h 0 0) := (amWp_dec rfl dX6_peak_15 rfl).trans (amS4 (Nat.le_of_ble_eq_true rfl) (Nat.le_of_ble_eq_true rfl) (Nat.le_of_ble_eq_true rfl) (Nat.le_of_ble_eq_true rfl))
theorem wX6_peak_18 {ret F n h} {v0 v1 st x} : eX6_peak ret F (n + 1) 18 [v0, v1, .int x] (st) h 0 0 = (eX6_peak ret F n 19 [v0, v1, .int x] (.int x :: st) h 0 0) := (amWp_dec rfl dX6_peak_18 rfl).trans rfl
theorem wX6_peak_19 {ret F n h} {v0 v1 v2 st x a} : eX6_peak ret F (n + 1) 19 [v0, v1, v2] (.int x :: .ref a :: st) h 0 0 = ((h.1 a).1 = 1 ∧ vp_in x (h.1 a).2 ∧ eX6_peak ret F n 20 [v0, v1, v2] (.int (h.2.1 a x.toNatClampNeg) :: st) h 0 0) := (amWp_dec rfl dX6_peak_19 rfl).trans rfl
theorem wX6_peak_20 {ret F n h} {v0 v1 v2 x0} : eX6_peak ret F (n + 1) 20 [v0, v1, v2] (.int x0 :: []) h 0 0 = (tX6_sizeOf [.int x0] h (fun v h => eX6_peak ret F n 23 [v0, v1, v2] (v.toList ++ ([])) h 0 0)) := (amWp_dec rfl dX6_peak_20 rfl).trans (amS4 (Nat.le_of_ble_eq_true rfl) (Nat.le_of_ble_eq_true rfl) (Nat.le_of_ble_eq_true rfl) (Nat.le_of_ble_eq_true rfl))
theorem wX6_peak_23 {ret F n h} {v0 v2 st x} : eX6_peak ret F (n + 1) 23 [v0, .int x, v2] (st) h 0 0 = (eX6_peak ret F n 24 [v0, .int x, v2] (.int x :: st) h 0 0) := (amWp_dec rfl dX6_peak_23 rfl).trans rfl
theorem wX6_peak_24 {ret F n h} {v0 v1 v2 st y x} : eX6_peak ret F (n + 1) 24 [v0, v1, v2] (.int y :: .int x :: st) h 0 0 = ((x ≤ y → eX6_peak ret F n 39 [v0, v1, v2] (st) h 0 0) ∧ (¬ x ≤ y → eX6_peak ret F n 27 [v0, v1, v2] (st) h 0 0)) := (amWp_dec rfl dX6_peak_24 rfl).trans rfl
theorem wX6_peak_27 {ret F n h} {v0 v1 v2 st} : eX6_peak ret F (n + 1) 27 [v0, v1, v2] (st) h 0 0 = (amIsR v0 ∧ eX6_peak ret F n 28 [v0, v1, v2] (v0 :: st) h 0 0) := (amWp_dec rfl dX6_peak_27 rfl).trans rfl
theorem wX6_peak_28 {ret F n h} {v0 v1 v2 a} : eX6_peak ret F (n + 1) 28 [v0, v1, v2] (.ref a :: []) h 0 0 = (h.1 a = (0, 6) ∧ eX6_peak ret F n 31 [v0, v1, v2] (va_rf (h.2.2.2.1 a 15) :: []) h 0 0) := (amWp_dec rfl dX6_peak_28 rfl).trans (amS4 (Nat.le_of_ble_eq_true rfl) (Nat.le_of_ble_eq_true rfl) (Nat.le_of_ble_eq_true rfl) (Nat.le_of_ble_eq_true rfl))
theorem wX6_peak_31 {ret F n h} {v0 v1 st x} : eX6_peak ret F (n + 1) 31 [v0, v1, .int x] (st) h 0 0 = (eX6_peak ret F n 32 [v0, v1, .int x] (.int x :: st) h 0 0) := (amWp_dec rfl dX6_peak_31 rfl).trans rfl
theorem wX6_peak_32 {ret F n h} {v0 v1 v2 st x a} : eX6_peak ret F (n + 1) 32 [v0, v1, v2] (.int x :: .ref a :: st) h 0 0 = ((h.1 a).1 = 1 ∧ vp_in x (h.1 a).2 ∧ eX6_peak ret F n 33 [v0, v1, v2] (.int (h.2.1 a x.toNatClampNeg) :: st) h 0 0) := (amWp_dec rfl dX6_peak_32 rfl).trans rfl
theorem wX6_peak_33 {ret F n h} {v0 v1 v2 x0} : eX6_peak ret F (n + 1) 33 [v0, v1, v2] (.int x0 :: []) h 0 0 = (tX6_sizeOf [.int x0] h (fun v h => eX6_peak ret F n 36 [v0, v1, v2] (v.toList ++ ([])) h 0 0)) := (amWp_dec rfl dX6_peak_33 rfl).trans (amS4 (Nat.le_of_ble_eq_true rfl) (Nat.le_of_ble_eq_true rfl) (Nat.le_of_ble_eq_true rfl) (Nat.le_of_ble_eq_true rfl))
theorem wX6_peak_36 {ret F n h} {v0 v1 v2 st} : eX6_peak ret F (n + 1) 36 [v0, v1, v2] (st) h 0 0 = (eX6_peak ret F n 40 [v0, v1, v2] (st) h 0 0) := (amWp_dec rfl dX6_peak_36 rfl).trans rfl
theorem wX6_peak_39 {ret F n h} {v0 v2 st x} : eX6_peak ret F (n + 1) 39 [v0, .int x, v2] (st) h 0 0 = (eX6_peak ret F n 40 [v0, .int x, v2] (.int x :: st) h 0 0) := (amWp_dec rfl dX6_peak_39 rfl).trans rfl
theorem wX6_peak_40 {ret F n h} {v0 v1 v2 st x} : eX6_peak ret F (n + 1) 40 [v0, v1, v2] (.int x :: st) h 0 0 = (eX6_peak ret F n 41 [amClr v0, .int x, v2] (st) h 0 0) := (amWp_dec rfl dX6_peak_40 rfl).trans (amTrue (Nat.le_of_ble_eq_true rfl))
theorem wX6_peak_41 {ret F n h} {v0 v1 st x} : eX6_peak ret F (n + 1) 41 [v0, v1, .int x] (st) h 0 0 = (eX6_peak ret F n 44 [v0, amClr v1, .int (x + nI 1)] (st) h 0 0) := (amWp_dec rfl dX6_peak_41 rfl).trans rfl
theorem wX6_peak_44 {ret F n h} {v0 v1 v2 st} : eX6_peak ret F (n + 1) 44 [v0, v1, v2] (st) h 0 0 = (eX6_peak ret F n 4 [v0, v1, v2] (st) h 0 0) := (amWp_dec rfl dX6_peak_44 rfl).trans rfl
theorem wX6_peak_47 {ret F n h} {v0 v2 st x} : eX6_peak ret F (n + 1) 47 [v0, .int x, v2] (st) h 0 0 = (eX6_peak ret F n 48 [v0, .int x, v2] (.int x :: st) h 0 0) := (amWp_dec rfl dX6_peak_47 rfl).trans rfl
theorem wX6_peak_48 {ret F n h} {v0 v1 v2 x} : eX6_peak ret F (n + 1) 48 [v0, v1, v2] ([.int x]) h 0 0 = (ret (some (.int x)) h 0 0) := (amWp_dec rfl dX6_peak_48 rfl).trans (amTrue ⟨_, rfl, rfl⟩)
theorem evX6_peak (l : Launch) (G : amG) : ∀ pc S i sz, amLk rX6_peak pc = some S → decode cX6_peak pc = .ok (i, sz) → amSiteP pc G l yX6_peak.cls yX6_peak.name yX6_peak.desc (amRm 2 0 0) i sz S.1 S.2.1 S.2.2.1 S.2.2.2 := amLk_ok (by
  refine List.forall_mem_cons.mpr ⟨⟨_, _, dX6_peak_6, amSite.P (amSiteGet ⟨_, rfl, by decide, Or.inl q1295⟩)⟩, ?_⟩
  refine List.forall_mem_cons.mpr ⟨⟨_, _, dX6_peak_15, amSite.P (amSiteGet ⟨_, rfl, by decide, Or.inl q1310⟩)⟩, ?_⟩
  refine List.forall_mem_cons.mpr ⟨⟨_, _, dX6_peak_20, amSite.P (amSiteS (metX6_sizeOf l G) rfl (by decide) (by decide) (lw_S q1411 q1412 q94 q1413) ⟨by decide +kernel, by decide +kernel, by decide +kernel⟩)⟩, ?_⟩
  refine List.forall_mem_cons.mpr ⟨⟨_, _, dX6_peak_28, amSite.P (amSiteGet ⟨_, rfl, by decide, Or.inl q1310⟩)⟩, ?_⟩
  refine List.forall_mem_cons.mpr ⟨⟨_, _, dX6_peak_33, amSite.P (amSiteS (metX6_sizeOf l G) rfl (by decide) (by decide) (lw_S q1411 q1412 q94 q1413) ⟨by decide +kernel, by decide +kernel, by decide +kernel⟩)⟩, ?_⟩
  exact fun _ h => absurd h List.not_mem_nil)
theorem goX6_peak {ret F} (hF : amCld cX6_peak kX6_peak (amLk rX6_peak) (some .int) 0 0 ret F) (n : Nat) {pc ls st h k z} (q : sX6_peak ret F n pc ls st h k z) : F pc ls st h k z := hF.1 n pc ls st h k z q
theorem metX6_peak (l : Launch) (G : amG) : amMet l G yX6_peak (ws_ yX6_peak cX6_peak 3 (some .int)) 2 0 0 tX6_peak := by
  refine amMet_of (cut := kX6_peak) (by decide +kernel) (evX6_peak l G) ?_
  intro as h K hT
  match as, hT with
  | [.ref a], ⟨l, e1, hR, e2, hn, hl, hK⟩ =>
  refine ⟨Nat.le_of_ble_eq_true rfl, fun F hF => ?_⟩
  show F 0 [.ref a, .retAddr 0, .retAddr 0] [] h 0 0
  obtain ⟨a, rfl⟩ : ∃ i : Nat, i = a := ⟨_, rfl⟩
  subst e1
  have loop : ∀ t p, p + t = l.length → F 4 [.ref 124, .int (nI (peakL (l.take p))), .int (nI p)] [] h 0 0 := by
    intro t
    induction t with
    | zero =>
      intro p e1
      have e : p = l.length := by omega
      subst e
      rw [List.take_length]
      refine goX6_peak hF 30 ?_
      simp (disch := omega) only [wX6_peak_0, uX6_peak_0, wX6_peak_1, wX6_peak_2, wX6_peak_3, wX6_peak_4, uX6_peak_4, wX6_peak_5, wX6_peak_6, wX6_peak_9, wX6_peak_10, wX6_peak_11, wX6_peak_14, wX6_peak_15, wX6_peak_18, wX6_peak_19, wX6_peak_20, wX6_peak_23, wX6_peak_24, wX6_peak_27, wX6_peak_28, wX6_peak_31, wX6_peak_32, wX6_peak_33, wX6_peak_36, wX6_peak_39, wX6_peak_40, wX6_peak_41, wX6_peak_44, wX6_peak_47, wX6_peak_48, amSI_1, amSI_2, amSI_3, amSI_s, amU_at, amIsR_ref, amIsR_null, amIsR_rf, amRf_some, amRf_none, amClr_int, amClr_ref, amClr_null, amClr_long, amClr_ra, amClr_rf, amFit_int, amFit_oref, amFit_aref, amFit_onull, amFit_anull, amOptSome, amOptNone, List.cons_append, List.nil_append, true_and, and_true, true_implies, not_true_eq_false, not_false_eq_true, false_implies, and_self, Nat.add_zero, Nat.zero_add, ne_eq, Prod.mk.injEq, amC01_0, amC01_1, amC01_nb, amNb0, amNb1, amTcpI_d, Nat.reduceLeDiff, Nat.reduceAdd, Nat.reduceSub, Nat.reduceEqDiff, Nat.le_refl, amN0le, hR.s, hR.r, amLeI, amLtI, amEqI, amLe0, amGt0, amEq0, amNotPosI, amGe0, amVI, amCl_nI, amAdd, amSub, amMul, e2]
      exact amRet.of (by decide) (by decide) hK
    | succ t ih =>
      intro p e1
      have q : (l.length ≤ p) = False := eq_false (by omega)
      obtain ⟨h1, h2⟩ := hl p (by omega)
      have b1 := peak_le (l.take p) 0 (by decide)
      have b2 := pop_le (l.getD p PL0).1
      have nx := ih (p + 1) (by omega)
      rw [peakL, foldA_take (d := PL0) (by omega)] at nx
      have b3 : peakL (l.take p) ≤ 20 := b1
      have nx : F 4 [.ref 124, .int (nI (max (peakL (l.take p)) (pop (l.getD p PL0).1))), .int (nI (p + 1))] [] h 0 0 := nx
      refine goX6_peak hF 30 ?_
      simp (disch := omega) only [wX6_peak_0, uX6_peak_0, wX6_peak_1, wX6_peak_2, wX6_peak_3, wX6_peak_4, uX6_peak_4, wX6_peak_5, wX6_peak_6, wX6_peak_9, wX6_peak_10, wX6_peak_11, wX6_peak_14, wX6_peak_15, wX6_peak_18, wX6_peak_19, wX6_peak_20, wX6_peak_23, wX6_peak_24, wX6_peak_27, wX6_peak_28, wX6_peak_31, wX6_peak_32, wX6_peak_33, wX6_peak_36, wX6_peak_39, wX6_peak_40, wX6_peak_41, wX6_peak_44, wX6_peak_47, wX6_peak_48, amSI_1, amSI_2, amSI_3, amSI_s, amU_at, amIsR_ref, amIsR_null, amIsR_rf, amRf_some, amRf_none, amClr_int, amClr_ref, amClr_null, amClr_long, amClr_ra, amClr_rf, amFit_int, amFit_oref, amFit_aref, amFit_onull, amFit_anull, amOptSome, amOptNone, List.cons_append, List.nil_append, true_and, and_true, true_implies, not_true_eq_false, not_false_eq_true, false_implies, and_self, Nat.add_zero, Nat.zero_add, ne_eq, Prod.mk.injEq, amC01_0, amC01_1, amC01_nb, amNb0, amNb1, amTcpI_d, Nat.reduceLeDiff, Nat.reduceAdd, Nat.reduceSub, Nat.reduceEqDiff, Nat.le_refl, amN0le, hR.s, hR.r, amLeI, amLtI, amEqI, amLe0, amGt0, amEq0, amNotPosI, amGe0, amVI, amCl_nI, amAdd, amSub, amMul, e2, q, h1, sizeOfN h2]
      refine ⟨fun r => ?_, fun r => ?_⟩
      · rw [Nat.max_eq_left r] at nx
        exact nx
      · rw [Nat.max_eq_right (by omega)] at nx
        exact nx
  refine goX6_peak hF 30 ?_
  simp (disch := omega) only [wX6_peak_0, uX6_peak_0, wX6_peak_1, wX6_peak_2, wX6_peak_3, wX6_peak_4, uX6_peak_4, wX6_peak_5, wX6_peak_6, wX6_peak_9, wX6_peak_10, wX6_peak_11, wX6_peak_14, wX6_peak_15, wX6_peak_18, wX6_peak_19, wX6_peak_20, wX6_peak_23, wX6_peak_24, wX6_peak_27, wX6_peak_28, wX6_peak_31, wX6_peak_32, wX6_peak_33, wX6_peak_36, wX6_peak_39, wX6_peak_40, wX6_peak_41, wX6_peak_44, wX6_peak_47, wX6_peak_48, amSI_1, amSI_2, amSI_3, amSI_s, amU_at, amIsR_ref, amIsR_null, amIsR_rf, amRf_some, amRf_none, amClr_int, amClr_ref, amClr_null, amClr_long, amClr_ra, amClr_rf, amFit_int, amFit_oref, amFit_aref, amFit_onull, amFit_anull, amOptSome, amOptNone, List.cons_append, List.nil_append, true_and, and_true, true_implies, not_true_eq_false, not_false_eq_true, false_implies, and_self, Nat.add_zero, Nat.zero_add, ne_eq, Prod.mk.injEq, amC01_0, amC01_1, amC01_nb, amNb0, amNb1, amTcpI_d, Nat.reduceLeDiff, Nat.reduceAdd, Nat.reduceSub, Nat.reduceEqDiff, Nat.le_refl, amN0le, hR.s, hR.r, amLeI, amLtI, amEqI, amLe0, amGt0, amEq0, amNotPosI, amGe0, amVI, amCl_nI, amAdd, amSub, amMul]
  exact loop l.length 0 (by omega)
theorem tX6_peak_d {a : Nat} {h : amH} {K : Option Value → amH → Prop} : tX6_peak [.ref a] h K = ∃ l : List PL, a = (124 : Nat) ∧ mdAt h ∧ h.2.1 125 0 = nI l.length ∧ l.length ≤ 7 ∧ (∀ p : Nat, p < l.length → h.2.1 137 p = nI (l.getD p PL0).1 ∧ (l.getD p PL0).1 < 1048576) ∧ K (some (.int (nI (peakL l)))) h := rfl
def tX6_loss : amT := fun as h K => match as with
  | [.ref a] => ∃ l : List PL, a = (124 : Nat) ∧ mdAt h ∧ h.2.1 125 0 = nI l.length ∧ l.length ≤ 7 ∧ (∀ p : Nat, p < l.length → h.2.1 139 p = nI (l.getD p PL0).2.2.1 ∧ (l.getD p PL0).2.2.1 < 1048576) ∧ K (some (.int (nI (lossL l)))) h
  | _ => False
/-! ReadingStagesModel.loss()I -/
def kX6_loss : Nat → Bool := fun pc => pc == 4
def rX6_loss : List (Nat × amS) := [(6, 1, 0, 0, amTget 6 0), (16, 1, 0, 0, amTget 6 17), (21, 1, 0, 0, tX6_sizeOf)]
def eX6_loss (ret : Option Value → amH → Nat → Nat → Prop) (F : amX) : Nat → amX := amWp cX6_loss kX6_loss (amLk rX6_loss) (some .int) 0 0 ret F
def sX6_loss (ret : Option Value → amH → Nat → Nat → Prop) (F : amX) : Nat → amX := amWs cX6_loss kX6_loss (amLk rX6_loss) (some .int) 0 0 ret F
theorem wX6_loss_0 {ret F n h} {v0 v1 v2 st} : eX6_loss ret F (n + 1) 0 [v0, v1, v2] (st) h 0 0 = (eX6_loss ret F n 1 [v0, v1, v2] (.int (nI 0) :: st) h 0 0) := (amWp_dec rfl dX6_loss_0 rfl).trans rfl
theorem uX6_loss_0 {ret F n h} {v0 v1 v2 st} : sX6_loss ret F n 0 [v0, v1, v2] (st) h 0 0 = (eX6_loss ret F n 1 [v0, v1, v2] (.int (nI 0) :: st) h 0 0) := (amWs_dec dX6_loss_0 rfl).trans rfl
theorem wX6_loss_1 {ret F n h} {v0 v1 v2 st x} : eX6_loss ret F (n + 1) 1 [v0, v1, v2] (.int x :: st) h 0 0 = (eX6_loss ret F n 2 [amClr v0, .int x, v2] (st) h 0 0) := (amWp_dec rfl dX6_loss_1 rfl).trans (amTrue (Nat.le_of_ble_eq_true rfl))
theorem wX6_loss_2 {ret F n h} {v0 v1 v2 st} : eX6_loss ret F (n + 1) 2 [v0, v1, v2] (st) h 0 0 = (eX6_loss ret F n 3 [v0, v1, v2] (.int (nI 0) :: st) h 0 0) := (amWp_dec rfl dX6_loss_2 rfl).trans rfl
theorem wX6_loss_3 {ret F n h} {v0 v1 v2 st x} : eX6_loss ret F (n + 1) 3 [v0, v1, v2] (.int x :: st) h 0 0 = (eX6_loss ret F n 4 [v0, amClr v1, .int x] (st) h 0 0) := (amWp_dec rfl dX6_loss_3 rfl).trans (amTrue (Nat.le_of_ble_eq_true rfl))
theorem wX6_loss_4 {ret F n ls st h k z} : eX6_loss ret F (n + 1) 4 ls st h k z = F 4 ls st h k z := amWp_cut rfl
theorem uX6_loss_4 {ret F n h} {v0 v1 st x} : sX6_loss ret F n 4 [v0, v1, .int x] (st) h 0 0 = (eX6_loss ret F n 5 [v0, v1, .int x] (.int x :: st) h 0 0) := (amWs_dec dX6_loss_4 rfl).trans rfl
theorem wX6_loss_5 {ret F n h} {v0 v1 v2 st} : eX6_loss ret F (n + 1) 5 [v0, v1, v2] (st) h 0 0 = (amIsR v0 ∧ eX6_loss ret F n 6 [v0, v1, v2] (v0 :: st) h 0 0) := (amWp_dec rfl dX6_loss_5 rfl).trans rfl
theorem wX6_loss_6 {ret F n h} {v0 v1 v2 r0 a} : eX6_loss ret F (n + 1) 6 [v0, v1, v2] (.ref a :: r0 :: []) h 0 0 = (h.1 a = (0, 6) ∧ eX6_loss ret F n 9 [v0, v1, v2] (va_rf (h.2.2.2.1 a 0) :: r0 :: []) h 0 0) := (amWp_dec rfl dX6_loss_6 rfl).trans (amS4 (Nat.le_of_ble_eq_true rfl) (Nat.le_of_ble_eq_true rfl) (Nat.le_of_ble_eq_true rfl) (Nat.le_of_ble_eq_true rfl))
theorem wX6_loss_9 {ret F n h} {v0 v1 v2 st} : eX6_loss ret F (n + 1) 9 [v0, v1, v2] (st) h 0 0 = (eX6_loss ret F n 10 [v0, v1, v2] (.int (nI 0) :: st) h 0 0) := (amWp_dec rfl dX6_loss_9 rfl).trans rfl
theorem wX6_loss_10 {ret F n h} {v0 v1 v2 st x a} : eX6_loss ret F (n + 1) 10 [v0, v1, v2] (.int x :: .ref a :: st) h 0 0 = ((h.1 a).1 = 1 ∧ vp_in x (h.1 a).2 ∧ eX6_loss ret F n 11 [v0, v1, v2] (.int (h.2.1 a x.toNatClampNeg) :: st) h 0 0) := (amWp_dec rfl dX6_loss_10 rfl).trans rfl
theorem wX6_loss_11 {ret F n h} {v0 v1 v2 st y x} : eX6_loss ret F (n + 1) 11 [v0, v1, v2] (.int y :: .int x :: st) h 0 0 = ((y ≤ x → eX6_loss ret F n 32 [v0, v1, v2] (st) h 0 0) ∧ (¬ y ≤ x → eX6_loss ret F n 14 [v0, v1, v2] (st) h 0 0)) := (amWp_dec rfl dX6_loss_11 rfl).trans rfl
theorem wX6_loss_14 {ret F n h} {v0 v2 st x} : eX6_loss ret F (n + 1) 14 [v0, .int x, v2] (st) h 0 0 = (eX6_loss ret F n 15 [v0, .int x, v2] (.int x :: st) h 0 0) := (amWp_dec rfl dX6_loss_14 rfl).trans rfl
theorem wX6_loss_15 {ret F n h} {v0 v1 v2 st} : eX6_loss ret F (n + 1) 15 [v0, v1, v2] (st) h 0 0 = (amIsR v0 ∧ eX6_loss ret F n 16 [v0, v1, v2] (v0 :: st) h 0 0) := (amWp_dec rfl dX6_loss_15 rfl).trans rfl
theorem wX6_loss_16 {ret F n h} {v0 v1 v2 r0 a} : eX6_loss ret F (n + 1) 16 [v0, v1, v2] (.ref a :: r0 :: []) h 0 0 = (h.1 a = (0, 6) ∧ eX6_loss ret F n 19 [v0, v1, v2] (va_rf (h.2.2.2.1 a 17) :: r0 :: []) h 0 0) := (amWp_dec rfl dX6_loss_16 rfl).trans (amS4 (Nat.le_of_ble_eq_true rfl) (Nat.le_of_ble_eq_true rfl) (Nat.le_of_ble_eq_true rfl) (Nat.le_of_ble_eq_true rfl))
theorem wX6_loss_19 {ret F n h} {v0 v1 st x} : eX6_loss ret F (n + 1) 19 [v0, v1, .int x] (st) h 0 0 = (eX6_loss ret F n 20 [v0, v1, .int x] (.int x :: st) h 0 0) := (amWp_dec rfl dX6_loss_19 rfl).trans rfl
theorem wX6_loss_20 {ret F n h} {v0 v1 v2 st x a} : eX6_loss ret F (n + 1) 20 [v0, v1, v2] (.int x :: .ref a :: st) h 0 0 = ((h.1 a).1 = 1 ∧ vp_in x (h.1 a).2 ∧ eX6_loss ret F n 21 [v0, v1, v2] (.int (h.2.1 a x.toNatClampNeg) :: st) h 0 0) := (amWp_dec rfl dX6_loss_20 rfl).trans rfl
theorem wX6_loss_21 {ret F n h} {v0 v1 v2 x0 r0} : eX6_loss ret F (n + 1) 21 [v0, v1, v2] (.int x0 :: r0 :: []) h 0 0 = (tX6_sizeOf [.int x0] h (fun v h => eX6_loss ret F n 24 [v0, v1, v2] (v.toList ++ (r0 :: [])) h 0 0)) := (amWp_dec rfl dX6_loss_21 rfl).trans (amS4 (Nat.le_of_ble_eq_true rfl) (Nat.le_of_ble_eq_true rfl) (Nat.le_of_ble_eq_true rfl) (Nat.le_of_ble_eq_true rfl))
theorem wX6_loss_24 {ret F n h} {v0 v1 v2 st y x} : eX6_loss ret F (n + 1) 24 [v0, v1, v2] (.int y :: .int x :: st) h 0 0 = (eX6_loss ret F n 25 [v0, v1, v2] (.int (x + y) :: st) h 0 0) := (amWp_dec rfl dX6_loss_24 rfl).trans rfl
theorem wX6_loss_25 {ret F n h} {v0 v1 v2 st x} : eX6_loss ret F (n + 1) 25 [v0, v1, v2] (.int x :: st) h 0 0 = (eX6_loss ret F n 26 [amClr v0, .int x, v2] (st) h 0 0) := (amWp_dec rfl dX6_loss_25 rfl).trans (amTrue (Nat.le_of_ble_eq_true rfl))
theorem wX6_loss_26 {ret F n h} {v0 v1 st x} : eX6_loss ret F (n + 1) 26 [v0, v1, .int x] (st) h 0 0 = (eX6_loss ret F n 29 [v0, amClr v1, .int (x + nI 1)] (st) h 0 0) := (amWp_dec rfl dX6_loss_26 rfl).trans rfl
theorem wX6_loss_29 {ret F n h} {v0 v1 v2 st} : eX6_loss ret F (n + 1) 29 [v0, v1, v2] (st) h 0 0 = (eX6_loss ret F n 4 [v0, v1, v2] (st) h 0 0) := (amWp_dec rfl dX6_loss_29 rfl).trans rfl
theorem wX6_loss_32 {ret F n h} {v0 v2 st x} : eX6_loss ret F (n + 1) 32 [v0, .int x, v2] (st) h 0 0 = (eX6_loss ret F n 33 [v0, .int x, v2] (.int x :: st) h 0 0) := (amWp_dec rfl dX6_loss_32 rfl).trans rfl
theorem wX6_loss_33 {ret F n h} {v0 v1 v2 x} : eX6_loss ret F (n + 1) 33 [v0, v1, v2] ([.int x]) h 0 0 = (ret (some (.int x)) h 0 0) := (amWp_dec rfl dX6_loss_33 rfl).trans (amTrue ⟨_, rfl, rfl⟩)
theorem evX6_loss (l : Launch) (G : amG) : ∀ pc S i sz, amLk rX6_loss pc = some S → decode cX6_loss pc = .ok (i, sz) → amSiteP pc G l yX6_loss.cls yX6_loss.name yX6_loss.desc (amRm 2 0 0) i sz S.1 S.2.1 S.2.2.1 S.2.2.2 := amLk_ok (by
  refine List.forall_mem_cons.mpr ⟨⟨_, _, dX6_loss_6, amSite.P (amSiteGet ⟨_, rfl, by decide, Or.inl q1295⟩)⟩, ?_⟩
  refine List.forall_mem_cons.mpr ⟨⟨_, _, dX6_loss_16, amSite.P (amSiteGet ⟨_, rfl, by decide, Or.inl q1312⟩)⟩, ?_⟩
  refine List.forall_mem_cons.mpr ⟨⟨_, _, dX6_loss_21, amSite.P (amSiteS (metX6_sizeOf l G) rfl (by decide) (by decide) (lw_S q1411 q1412 q94 q1413) ⟨by decide +kernel, by decide +kernel, by decide +kernel⟩)⟩, ?_⟩
  exact fun _ h => absurd h List.not_mem_nil)
theorem goX6_loss {ret F} (hF : amCld cX6_loss kX6_loss (amLk rX6_loss) (some .int) 0 0 ret F) (n : Nat) {pc ls st h k z} (q : sX6_loss ret F n pc ls st h k z) : F pc ls st h k z := hF.1 n pc ls st h k z q
theorem metX6_loss (l : Launch) (G : amG) : amMet l G yX6_loss (ws_ yX6_loss cX6_loss 3 (some .int)) 2 0 0 tX6_loss := by
  refine amMet_of (cut := kX6_loss) (by decide +kernel) (evX6_loss l G) ?_
  intro as h K hT
  match as, hT with
  | [.ref a], ⟨l, e1, hR, e2, hn, hl, hK⟩ =>
  refine ⟨Nat.le_of_ble_eq_true rfl, fun F hF => ?_⟩
  show F 0 [.ref a, .retAddr 0, .retAddr 0] [] h 0 0
  obtain ⟨a, rfl⟩ : ∃ i : Nat, i = a := ⟨_, rfl⟩
  subst e1
  have loop : ∀ t p, p + t = l.length → F 4 [.ref 124, .int (nI (lossL (l.take p))), .int (nI p)] [] h 0 0 := by
    intro t
    induction t with
    | zero =>
      intro p e1
      have e : p = l.length := by omega
      subst e
      rw [List.take_length]
      refine goX6_loss hF 30 ?_
      simp (disch := omega) only [wX6_loss_0, uX6_loss_0, wX6_loss_1, wX6_loss_2, wX6_loss_3, wX6_loss_4, uX6_loss_4, wX6_loss_5, wX6_loss_6, wX6_loss_9, wX6_loss_10, wX6_loss_11, wX6_loss_14, wX6_loss_15, wX6_loss_16, wX6_loss_19, wX6_loss_20, wX6_loss_21, wX6_loss_24, wX6_loss_25, wX6_loss_26, wX6_loss_29, wX6_loss_32, wX6_loss_33, amSI_1, amSI_2, amSI_3, amSI_s, amU_at, amIsR_ref, amIsR_null, amIsR_rf, amRf_some, amRf_none, amClr_int, amClr_ref, amClr_null, amClr_long, amClr_ra, amClr_rf, amFit_int, amFit_oref, amFit_aref, amFit_onull, amFit_anull, amOptSome, amOptNone, List.cons_append, List.nil_append, true_and, and_true, true_implies, not_true_eq_false, not_false_eq_true, false_implies, and_self, Nat.add_zero, Nat.zero_add, ne_eq, Prod.mk.injEq, amC01_0, amC01_1, amC01_nb, amNb0, amNb1, amTcpI_d, Nat.reduceLeDiff, Nat.reduceAdd, Nat.reduceSub, Nat.reduceEqDiff, Nat.le_refl, amN0le, hR.s, hR.r, amLeI, amLtI, amEqI, amLe0, amGt0, amEq0, amNotPosI, amGe0, amVI, amCl_nI, amAdd, amSub, amMul, e2]
      exact amRet.of (by decide) (by decide) hK
    | succ t ih =>
      intro p e1
      have q : (l.length ≤ p) = False := eq_false (by omega)
      obtain ⟨h1, h2⟩ := hl p (by omega)
      have nx := ih (p + 1) (by omega)
      rw [lossL, foldA_take (d := PL0) (by omega)] at nx
      refine goX6_loss hF 30 ?_
      simp (disch := omega) only [wX6_loss_0, uX6_loss_0, wX6_loss_1, wX6_loss_2, wX6_loss_3, wX6_loss_4, uX6_loss_4, wX6_loss_5, wX6_loss_6, wX6_loss_9, wX6_loss_10, wX6_loss_11, wX6_loss_14, wX6_loss_15, wX6_loss_16, wX6_loss_19, wX6_loss_20, wX6_loss_21, wX6_loss_24, wX6_loss_25, wX6_loss_26, wX6_loss_29, wX6_loss_32, wX6_loss_33, amSI_1, amSI_2, amSI_3, amSI_s, amU_at, amIsR_ref, amIsR_null, amIsR_rf, amRf_some, amRf_none, amClr_int, amClr_ref, amClr_null, amClr_long, amClr_ra, amClr_rf, amFit_int, amFit_oref, amFit_aref, amFit_onull, amFit_anull, amOptSome, amOptNone, List.cons_append, List.nil_append, true_and, and_true, true_implies, not_true_eq_false, not_false_eq_true, false_implies, and_self, Nat.add_zero, Nat.zero_add, ne_eq, Prod.mk.injEq, amC01_0, amC01_1, amC01_nb, amNb0, amNb1, amTcpI_d, Nat.reduceLeDiff, Nat.reduceAdd, Nat.reduceSub, Nat.reduceEqDiff, Nat.le_refl, amN0le, hR.s, hR.r, amLeI, amLtI, amEqI, amLe0, amGt0, amEq0, amNotPosI, amGe0, amVI, amCl_nI, amAdd, amSub, amMul, e2, q, h1, sizeOfN h2]
      exact nx
  refine goX6_loss hF 30 ?_
  simp (disch := omega) only [wX6_loss_0, uX6_loss_0, wX6_loss_1, wX6_loss_2, wX6_loss_3, wX6_loss_4, uX6_loss_4, wX6_loss_5, wX6_loss_6, wX6_loss_9, wX6_loss_10, wX6_loss_11, wX6_loss_14, wX6_loss_15, wX6_loss_16, wX6_loss_19, wX6_loss_20, wX6_loss_21, wX6_loss_24, wX6_loss_25, wX6_loss_26, wX6_loss_29, wX6_loss_32, wX6_loss_33, amSI_1, amSI_2, amSI_3, amSI_s, amU_at, amIsR_ref, amIsR_null, amIsR_rf, amRf_some, amRf_none, amClr_int, amClr_ref, amClr_null, amClr_long, amClr_ra, amClr_rf, amFit_int, amFit_oref, amFit_aref, amFit_onull, amFit_anull, amOptSome, amOptNone, List.cons_append, List.nil_append, true_and, and_true, true_implies, not_true_eq_false, not_false_eq_true, false_implies, and_self, Nat.add_zero, Nat.zero_add, ne_eq, Prod.mk.injEq, amC01_0, amC01_1, amC01_nb, amNb0, amNb1, amTcpI_d, Nat.reduceLeDiff, Nat.reduceAdd, Nat.reduceSub, Nat.reduceEqDiff, Nat.le_refl, amN0le, hR.s, hR.r, amLeI, amLtI, amEqI, amLe0, amGt0, amEq0, amNotPosI, amGe0, amVI, amCl_nI, amAdd, amSub, amMul]
  exact loop l.length 0 (by omega)
theorem tX6_loss_d {a : Nat} {h : amH} {K : Option Value → amH → Prop} : tX6_loss [.ref a] h K = ∃ l : List PL, a = (124 : Nat) ∧ mdAt h ∧ h.2.1 125 0 = nI l.length ∧ l.length ≤ 7 ∧ (∀ p : Nat, p < l.length → h.2.1 139 p = nI (l.getD p PL0).2.2.1 ∧ (l.getD p PL0).2.2.1 < 1048576) ∧ K (some (.int (nI (lossL l)))) h := rfl
theorem MrIs.pk {m : Nat → Nat → Int32} {S : HS} {l : List Nat} {mis : Nat} (h : MrIs m (S.rd l mis)) : ∀ p : Nat, p < (S.rd l mis).2.length → m 137 p = nI ((S.rd l mis).2.getD p PL0).1 ∧ ((S.rd l mis).2.getD p PL0).1 < 1048576 := fun p hp => ⟨(h.2 p hp).1, (rdOf_pl _ _ (pl_at hp)).1⟩
theorem MrIs.ls {m : Nat → Nat → Int32} {S : HS} {l : List Nat} {mis : Nat} (h : MrIs m (S.rd l mis)) : ∀ p : Nat, p < (S.rd l mis).2.length → m 139 p = nI ((S.rd l mis).2.getD p PL0).2.2.1 ∧ ((S.rd l mis).2.getD p PL0).2.2.1 < 1048576 := fun p hp => ⟨(h.2 p hp).2.2.1, (rdOf_pl _ _ (pl_at hp)).2.2.1⟩
/-- the peak and the loss of an order that was read -/
theorem mPeak {h : amH} {S : HS} {l : List Nat} {K : Option Value → amH → Prop} (hp : mdPre h S l) (hr : MrIs h.2.1 (S.rd l 0)) (k : K (some (.int (nI (S.peak l)))) h) : tX6_peak [.ref 124] h K := ⟨(S.rd l 0).2, rfl, hp.1, by rw [S.rd_len, hp.2.2.2.2.2.2.1]; exact hp.2.1.n, by rw [S.rd_len, hp.2.2.2.2.2.2.1]; exact hp.2.1.n7, hr.pk, k⟩
theorem mLoss {h : amH} {S : HS} {l : List Nat} {K : Option Value → amH → Prop} (hp : mdPre h S l) (hr : MrIs h.2.1 (S.rd l 0)) (k : K (some (.int (nI (S.loss l)))) h) : tX6_loss [.ref 124] h K := ⟨(S.rd l 0).2, rfl, hp.1, by rw [S.rd_len, hp.2.2.2.2.2.2.1]; exact hp.2.1.n, by rw [S.rd_len, hp.2.2.2.2.2.2.1]; exact hp.2.1.n7, hr.ls, k⟩
def tX6_isHolding : amT := fun as h K => match as with
  | [.ref a] => ∃ (S : HS) (l : List Nat), a = (124 : Nat) ∧ mdPre h S l ∧ K (some (.int (amC01 (S.holds l = true)))) h
  | _ => False
/-! ReadingStagesModel.isHolding()Z -/
def kX6_isHolding : Nat → Bool := fun pc => pc == 6 || pc == 44
def rX6_isHolding : List (Nat × amS) := [(8, 1, 0, 0, amTget 6 0), (21, 1, 0, 0, amTget 6 0), (27, 1, 0, 0, amTget 6 12), (48, 1, 0, 0, amTget 6 12)]
def eX6_isHolding (ret : Option Value → amH → Nat → Nat → Prop) (F : amX) : Nat → amX := amWp cX6_isHolding kX6_isHolding (amLk rX6_isHolding) (some .boolean) 0 0 ret F
def sX6_isHolding (ret : Option Value → amH → Nat → Nat → Prop) (F : amX) : Nat → amX := amWs cX6_isHolding kX6_isHolding (amLk rX6_isHolding) (some .boolean) 0 0 ret F
theorem wX6_isHolding_0 {ret F n h} {v0 v1 v2 v3 st} : eX6_isHolding ret F (n + 1) 0 [v0, v1, v2, v3] (st) h 0 0 = (eX6_isHolding ret F n 1 [v0, v1, v2, v3] (.int (nI 0) :: st) h 0 0) := (amWp_dec rfl dX6_isHolding_0 rfl).trans rfl
theorem uX6_isHolding_0 {ret F n h} {v0 v1 v2 v3 st} : sX6_isHolding ret F n 0 [v0, v1, v2, v3] (st) h 0 0 = (eX6_isHolding ret F n 1 [v0, v1, v2, v3] (.int (nI 0) :: st) h 0 0) := (amWs_dec dX6_isHolding_0 rfl).trans rfl
theorem wX6_isHolding_1 {ret F n h} {v0 v1 v2 v3 st x} : eX6_isHolding ret F (n + 1) 1 [v0, v1, v2, v3] (.int x :: st) h 0 0 = (eX6_isHolding ret F n 2 [amClr v0, .int x, v2, v3] (st) h 0 0) := (amWp_dec rfl dX6_isHolding_1 rfl).trans (amTrue (Nat.le_of_ble_eq_true rfl))
theorem wX6_isHolding_2 {ret F n h} {v0 v1 v2 v3 st} : eX6_isHolding ret F (n + 1) 2 [v0, v1, v2, v3] (st) h 0 0 = (eX6_isHolding ret F n 3 [v0, v1, v2, v3] (.int (nI 1) :: st) h 0 0) := (amWp_dec rfl dX6_isHolding_2 rfl).trans rfl
theorem wX6_isHolding_3 {ret F n h} {v0 v1 v2 v3 st x} : eX6_isHolding ret F (n + 1) 3 [v0, v1, v2, v3] (.int x :: st) h 0 0 = (eX6_isHolding ret F n 4 [v0, amClr v1, .int x, v3] (st) h 0 0) := (amWp_dec rfl dX6_isHolding_3 rfl).trans (amTrue (Nat.le_of_ble_eq_true rfl))
theorem wX6_isHolding_4 {ret F n h} {v0 v1 v2 v3 st} : eX6_isHolding ret F (n + 1) 4 [v0, v1, v2, v3] (st) h 0 0 = (eX6_isHolding ret F n 5 [v0, v1, v2, v3] (.int (nI 0) :: st) h 0 0) := (amWp_dec rfl dX6_isHolding_4 rfl).trans rfl
theorem wX6_isHolding_5 {ret F n h} {v0 v1 v2 v3 st x} : eX6_isHolding ret F (n + 1) 5 [v0, v1, v2, v3] (.int x :: st) h 0 0 = (eX6_isHolding ret F n 6 [v0, v1, amClr v2, .int x] (st) h 0 0) := (amWp_dec rfl dX6_isHolding_5 rfl).trans (amTrue (Nat.le_of_ble_eq_true rfl))
theorem wX6_isHolding_6 {ret F n ls st h k z} : eX6_isHolding ret F (n + 1) 6 ls st h k z = F 6 ls st h k z := amWp_cut rfl
theorem uX6_isHolding_6 {ret F n h} {v0 v1 v2 st x} : sX6_isHolding ret F n 6 [v0, v1, v2, .int x] (st) h 0 0 = (eX6_isHolding ret F n 7 [v0, v1, v2, .int x] (.int x :: st) h 0 0) := (amWs_dec dX6_isHolding_6 rfl).trans rfl
theorem wX6_isHolding_7 {ret F n h} {v0 v1 v2 v3 st} : eX6_isHolding ret F (n + 1) 7 [v0, v1, v2, v3] (st) h 0 0 = (amIsR v0 ∧ eX6_isHolding ret F n 8 [v0, v1, v2, v3] (v0 :: st) h 0 0) := (amWp_dec rfl dX6_isHolding_7 rfl).trans rfl
theorem wX6_isHolding_8 {ret F n h} {v0 v1 v2 v3 r0 a} : eX6_isHolding ret F (n + 1) 8 [v0, v1, v2, v3] (.ref a :: r0 :: []) h 0 0 = (h.1 a = (0, 6) ∧ eX6_isHolding ret F n 11 [v0, v1, v2, v3] (va_rf (h.2.2.2.1 a 0) :: r0 :: []) h 0 0) := (amWp_dec rfl dX6_isHolding_8 rfl).trans (amS4 (Nat.le_of_ble_eq_true rfl) (Nat.le_of_ble_eq_true rfl) (Nat.le_of_ble_eq_true rfl) (Nat.le_of_ble_eq_true rfl))
theorem wX6_isHolding_11 {ret F n h} {v0 v1 v2 v3 st} : eX6_isHolding ret F (n + 1) 11 [v0, v1, v2, v3] (st) h 0 0 = (eX6_isHolding ret F n 12 [v0, v1, v2, v3] (.int (nI 0) :: st) h 0 0) := (amWp_dec rfl dX6_isHolding_11 rfl).trans rfl
theorem wX6_isHolding_12 {ret F n h} {v0 v1 v2 v3 st x a} : eX6_isHolding ret F (n + 1) 12 [v0, v1, v2, v3] (.int x :: .ref a :: st) h 0 0 = ((h.1 a).1 = 1 ∧ vp_in x (h.1 a).2 ∧ eX6_isHolding ret F n 13 [v0, v1, v2, v3] (.int (h.2.1 a x.toNatClampNeg) :: st) h 0 0) := (amWp_dec rfl dX6_isHolding_12 rfl).trans rfl
theorem wX6_isHolding_13 {ret F n h} {v0 v1 v2 v3 st y x} : eX6_isHolding ret F (n + 1) 13 [v0, v1, v2, v3] (.int y :: .int x :: st) h 0 0 = ((y ≤ x → eX6_isHolding ret F n 62 [v0, v1, v2, v3] (st) h 0 0) ∧ (¬ y ≤ x → eX6_isHolding ret F n 16 [v0, v1, v2, v3] (st) h 0 0)) := (amWp_dec rfl dX6_isHolding_13 rfl).trans rfl
theorem wX6_isHolding_16 {ret F n h} {v0 v1 v3 st x} : eX6_isHolding ret F (n + 1) 16 [v0, v1, .int x, v3] (st) h 0 0 = (eX6_isHolding ret F n 17 [v0, v1, .int x, v3] (.int x :: st) h 0 0) := (amWp_dec rfl dX6_isHolding_16 rfl).trans rfl
theorem wX6_isHolding_17 {ret F n h} {v0 v1 v2 v3 st x} : eX6_isHolding ret F (n + 1) 17 [v0, v1, v2, v3] (.int x :: st) h 0 0 = ((x = 0 → eX6_isHolding ret F n 43 [v0, v1, v2, v3] (st) h 0 0) ∧ (¬ x = 0 → eX6_isHolding ret F n 20 [v0, v1, v2, v3] (st) h 0 0)) := (amWp_dec rfl dX6_isHolding_17 rfl).trans rfl
theorem wX6_isHolding_20 {ret F n h} {v0 v1 v2 v3 st} : eX6_isHolding ret F (n + 1) 20 [v0, v1, v2, v3] (st) h 0 0 = (amIsR v0 ∧ eX6_isHolding ret F n 21 [v0, v1, v2, v3] (v0 :: st) h 0 0) := (amWp_dec rfl dX6_isHolding_20 rfl).trans rfl
theorem wX6_isHolding_21 {ret F n h} {v0 v1 v2 v3 a} : eX6_isHolding ret F (n + 1) 21 [v0, v1, v2, v3] (.ref a :: []) h 0 0 = (h.1 a = (0, 6) ∧ eX6_isHolding ret F n 24 [v0, v1, v2, v3] (va_rf (h.2.2.2.1 a 0) :: []) h 0 0) := (amWp_dec rfl dX6_isHolding_21 rfl).trans (amS4 (Nat.le_of_ble_eq_true rfl) (Nat.le_of_ble_eq_true rfl) (Nat.le_of_ble_eq_true rfl) (Nat.le_of_ble_eq_true rfl))
theorem wX6_isHolding_24 {ret F n h} {v0 v1 v2 v3 st} : eX6_isHolding ret F (n + 1) 24 [v0, v1, v2, v3] (st) h 0 0 = (eX6_isHolding ret F n 26 [v0, v1, v2, v3] (.int (nI 20) :: st) h 0 0) := (amWp_dec rfl dX6_isHolding_24 rfl).trans rfl
theorem wX6_isHolding_26 {ret F n h} {v0 v1 v2 v3 st} : eX6_isHolding ret F (n + 1) 26 [v0, v1, v2, v3] (st) h 0 0 = (amIsR v0 ∧ eX6_isHolding ret F n 27 [v0, v1, v2, v3] (v0 :: st) h 0 0) := (amWp_dec rfl dX6_isHolding_26 rfl).trans rfl
theorem wX6_isHolding_27 {ret F n h} {v0 v1 v2 v3 r0 r1 a} : eX6_isHolding ret F (n + 1) 27 [v0, v1, v2, v3] (.ref a :: r0 :: r1 :: []) h 0 0 = (h.1 a = (0, 6) ∧ eX6_isHolding ret F n 30 [v0, v1, v2, v3] (va_rf (h.2.2.2.1 a 12) :: r0 :: r1 :: []) h 0 0) := (amWp_dec rfl dX6_isHolding_27 rfl).trans (amS4 (Nat.le_of_ble_eq_true rfl) (Nat.le_of_ble_eq_true rfl) (Nat.le_of_ble_eq_true rfl) (Nat.le_of_ble_eq_true rfl))
theorem wX6_isHolding_30 {ret F n h} {v0 v1 v2 st x} : eX6_isHolding ret F (n + 1) 30 [v0, v1, v2, .int x] (st) h 0 0 = (eX6_isHolding ret F n 31 [v0, v1, v2, .int x] (.int x :: st) h 0 0) := (amWp_dec rfl dX6_isHolding_30 rfl).trans rfl
theorem wX6_isHolding_31 {ret F n h} {v0 v1 v2 v3 st x a} : eX6_isHolding ret F (n + 1) 31 [v0, v1, v2, v3] (.int x :: .ref a :: st) h 0 0 = ((h.1 a).1 = 1 ∧ vp_in x (h.1 a).2 ∧ eX6_isHolding ret F n 32 [v0, v1, v2, v3] (.int (h.2.1 a x.toNatClampNeg) :: st) h 0 0) := (amWp_dec rfl dX6_isHolding_31 rfl).trans rfl
theorem wX6_isHolding_32 {ret F n h} {v0 v1 v2 v3 st y x} : eX6_isHolding ret F (n + 1) 32 [v0, v1, v2, v3] (.int y :: .int x :: st) h 0 0 = (eX6_isHolding ret F n 33 [v0, v1, v2, v3] (.int (x + y) :: st) h 0 0) := (amWp_dec rfl dX6_isHolding_32 rfl).trans rfl
theorem wX6_isHolding_33 {ret F n h} {v0 v1 v2 v3 st x a} : eX6_isHolding ret F (n + 1) 33 [v0, v1, v2, v3] (.int x :: .ref a :: st) h 0 0 = ((h.1 a).1 = 1 ∧ vp_in x (h.1 a).2 ∧ eX6_isHolding ret F n 34 [v0, v1, v2, v3] (.int (h.2.1 a x.toNatClampNeg) :: st) h 0 0) := (amWp_dec rfl dX6_isHolding_33 rfl).trans rfl
theorem wX6_isHolding_34 {ret F n h} {v0 v2 v3 st x} : eX6_isHolding ret F (n + 1) 34 [v0, .int x, v2, v3] (st) h 0 0 = (eX6_isHolding ret F n 35 [v0, .int x, v2, v3] (.int x :: st) h 0 0) := (amWp_dec rfl dX6_isHolding_34 rfl).trans rfl
theorem wX6_isHolding_35 {ret F n h} {v0 v1 v2 v3 st y x} : eX6_isHolding ret F (n + 1) 35 [v0, v1, v2, v3] (.int y :: .int x :: st) h 0 0 = (eX6_isHolding ret F n 36 [v0, v1, v2, v3] (.int (x &&& y) :: st) h 0 0) := (amWp_dec rfl dX6_isHolding_35 rfl).trans rfl
theorem wX6_isHolding_36 {ret F n h} {v0 v1 v2 v3 st x} : eX6_isHolding ret F (n + 1) 36 [v0, v1, v2, v3] (.int x :: st) h 0 0 = ((¬ x = 0 → eX6_isHolding ret F n 43 [v0, v1, v2, v3] (st) h 0 0) ∧ (x = 0 → eX6_isHolding ret F n 39 [v0, v1, v2, v3] (st) h 0 0)) := (amWp_dec rfl dX6_isHolding_36 rfl).trans rfl
theorem wX6_isHolding_39 {ret F n h} {v0 v1 v2 v3 st} : eX6_isHolding ret F (n + 1) 39 [v0, v1, v2, v3] (st) h 0 0 = (eX6_isHolding ret F n 40 [v0, v1, v2, v3] (.int (nI 1) :: st) h 0 0) := (amWp_dec rfl dX6_isHolding_39 rfl).trans rfl
theorem wX6_isHolding_40 {ret F n h} {v0 v1 v2 v3 st} : eX6_isHolding ret F (n + 1) 40 [v0, v1, v2, v3] (st) h 0 0 = (eX6_isHolding ret F n 44 [v0, v1, v2, v3] (st) h 0 0) := (amWp_dec rfl dX6_isHolding_40 rfl).trans rfl
theorem wX6_isHolding_43 {ret F n h} {v0 v1 v2 v3 st} : eX6_isHolding ret F (n + 1) 43 [v0, v1, v2, v3] (st) h 0 0 = (eX6_isHolding ret F n 44 [v0, v1, v2, v3] (.int (nI 0) :: st) h 0 0) := (amWp_dec rfl dX6_isHolding_43 rfl).trans rfl
theorem wX6_isHolding_44 {ret F n ls st h k z} : eX6_isHolding ret F (n + 1) 44 ls st h k z = F 44 ls st h k z := amWp_cut rfl
theorem uX6_isHolding_44 {ret F n h} {v0 v1 v2 v3 st x} : sX6_isHolding ret F n 44 [v0, v1, v2, v3] (.int x :: st) h 0 0 = (eX6_isHolding ret F n 45 [v0, amClr v1, .int x, v3] (st) h 0 0) := (amWs_dec dX6_isHolding_44 rfl).trans (amTrue (Nat.le_of_ble_eq_true rfl))
theorem wX6_isHolding_45 {ret F n h} {v0 v2 v3 st x} : eX6_isHolding ret F (n + 1) 45 [v0, .int x, v2, v3] (st) h 0 0 = (eX6_isHolding ret F n 46 [v0, .int x, v2, v3] (.int x :: st) h 0 0) := (amWp_dec rfl dX6_isHolding_45 rfl).trans rfl
theorem wX6_isHolding_46 {ret F n h} {v0 v1 v2 v3 st} : eX6_isHolding ret F (n + 1) 46 [v0, v1, v2, v3] (st) h 0 0 = (eX6_isHolding ret F n 47 [v0, v1, v2, v3] (.int (nI 1) :: st) h 0 0) := (amWp_dec rfl dX6_isHolding_46 rfl).trans rfl
theorem wX6_isHolding_47 {ret F n h} {v0 v1 v2 v3 st} : eX6_isHolding ret F (n + 1) 47 [v0, v1, v2, v3] (st) h 0 0 = (amIsR v0 ∧ eX6_isHolding ret F n 48 [v0, v1, v2, v3] (v0 :: st) h 0 0) := (amWp_dec rfl dX6_isHolding_47 rfl).trans rfl
theorem wX6_isHolding_48 {ret F n h} {v0 v1 v2 v3 r0 r1 a} : eX6_isHolding ret F (n + 1) 48 [v0, v1, v2, v3] (.ref a :: r0 :: r1 :: []) h 0 0 = (h.1 a = (0, 6) ∧ eX6_isHolding ret F n 51 [v0, v1, v2, v3] (va_rf (h.2.2.2.1 a 12) :: r0 :: r1 :: []) h 0 0) := (amWp_dec rfl dX6_isHolding_48 rfl).trans (amS4 (Nat.le_of_ble_eq_true rfl) (Nat.le_of_ble_eq_true rfl) (Nat.le_of_ble_eq_true rfl) (Nat.le_of_ble_eq_true rfl))
theorem wX6_isHolding_51 {ret F n h} {v0 v1 v2 st x} : eX6_isHolding ret F (n + 1) 51 [v0, v1, v2, .int x] (st) h 0 0 = (eX6_isHolding ret F n 52 [v0, v1, v2, .int x] (.int x :: st) h 0 0) := (amWp_dec rfl dX6_isHolding_51 rfl).trans rfl
theorem wX6_isHolding_52 {ret F n h} {v0 v1 v2 v3 st x a} : eX6_isHolding ret F (n + 1) 52 [v0, v1, v2, v3] (.int x :: .ref a :: st) h 0 0 = ((h.1 a).1 = 1 ∧ vp_in x (h.1 a).2 ∧ eX6_isHolding ret F n 53 [v0, v1, v2, v3] (.int (h.2.1 a x.toNatClampNeg) :: st) h 0 0) := (amWp_dec rfl dX6_isHolding_52 rfl).trans rfl
theorem wX6_isHolding_53 {ret F n h} {v0 v1 v2 v3 st y x} : eX6_isHolding ret F (n + 1) 53 [v0, v1, v2, v3] (.int y :: .int x :: st) h 0 0 = (eX6_isHolding ret F n 54 [v0, v1, v2, v3] (.int (x <<< (y &&& 31)) :: st) h 0 0) := (amWp_dec rfl dX6_isHolding_53 rfl).trans rfl
theorem wX6_isHolding_54 {ret F n h} {v0 v1 v2 v3 st y x} : eX6_isHolding ret F (n + 1) 54 [v0, v1, v2, v3] (.int y :: .int x :: st) h 0 0 = (eX6_isHolding ret F n 55 [v0, v1, v2, v3] (.int (x ||| y) :: st) h 0 0) := (amWp_dec rfl dX6_isHolding_54 rfl).trans rfl
theorem wX6_isHolding_55 {ret F n h} {v0 v1 v2 v3 st x} : eX6_isHolding ret F (n + 1) 55 [v0, v1, v2, v3] (.int x :: st) h 0 0 = (eX6_isHolding ret F n 56 [amClr v0, .int x, v2, v3] (st) h 0 0) := (amWp_dec rfl dX6_isHolding_55 rfl).trans (amTrue (Nat.le_of_ble_eq_true rfl))
theorem wX6_isHolding_56 {ret F n h} {v0 v1 v2 st x} : eX6_isHolding ret F (n + 1) 56 [v0, v1, v2, .int x] (st) h 0 0 = (eX6_isHolding ret F n 59 [v0, v1, amClr v2, .int (x + nI 1)] (st) h 0 0) := (amWp_dec rfl dX6_isHolding_56 rfl).trans rfl
theorem wX6_isHolding_59 {ret F n h} {v0 v1 v2 v3 st} : eX6_isHolding ret F (n + 1) 59 [v0, v1, v2, v3] (st) h 0 0 = (eX6_isHolding ret F n 6 [v0, v1, v2, v3] (st) h 0 0) := (amWp_dec rfl dX6_isHolding_59 rfl).trans rfl
theorem wX6_isHolding_62 {ret F n h} {v0 v1 v3 st x} : eX6_isHolding ret F (n + 1) 62 [v0, v1, .int x, v3] (st) h 0 0 = (eX6_isHolding ret F n 63 [v0, v1, .int x, v3] (.int x :: st) h 0 0) := (amWp_dec rfl dX6_isHolding_62 rfl).trans rfl
theorem wX6_isHolding_63 {ret F n h} {v0 v1 v2 v3 x} : eX6_isHolding ret F (n + 1) 63 [v0, v1, v2, v3] ([.int x]) h 0 0 = (narrow .boolean (.int x) = .int x ∧ ret (some (.int x)) h 0 0) := (amWp_dec rfl dX6_isHolding_63 rfl).trans (amRetTy)
theorem evX6_isHolding (l : Launch) (G : amG) : ∀ pc S i sz, amLk rX6_isHolding pc = some S → decode cX6_isHolding pc = .ok (i, sz) → amSiteP pc G l yX6_isHolding.cls yX6_isHolding.name yX6_isHolding.desc (amRm 1 0 0) i sz S.1 S.2.1 S.2.2.1 S.2.2.2 := amLk_ok (by
  refine List.forall_mem_cons.mpr ⟨⟨_, _, dX6_isHolding_8, amSite.P (amSiteGet ⟨_, rfl, by decide, Or.inl q1295⟩)⟩, ?_⟩
  refine List.forall_mem_cons.mpr ⟨⟨_, _, dX6_isHolding_21, amSite.P (amSiteGet ⟨_, rfl, by decide, Or.inl q1295⟩)⟩, ?_⟩
  refine List.forall_mem_cons.mpr ⟨⟨_, _, dX6_isHolding_27, amSite.P (amSiteGet ⟨_, rfl, by decide, Or.inl q1307⟩)⟩, ?_⟩
  refine List.forall_mem_cons.mpr ⟨⟨_, _, dX6_isHolding_48, amSite.P (amSiteGet ⟨_, rfl, by decide, Or.inl q1307⟩)⟩, ?_⟩
  exact fun _ h => absurd h List.not_mem_nil)
theorem goX6_isHolding {ret F} (hF : amCld cX6_isHolding kX6_isHolding (amLk rX6_isHolding) (some .boolean) 0 0 ret F) (n : Nat) {pc ls st h k z} (q : sX6_isHolding ret F n pc ls st h k z) : F pc ls st h k z := hF.1 n pc ls st h k z q
theorem metX6_isHolding (l : Launch) (G : amG) : amMet l G yX6_isHolding (ws_ yX6_isHolding cX6_isHolding 4 (some .boolean)) 1 0 0 tX6_isHolding := by
  refine amMet_of (cut := kX6_isHolding) (by decide +kernel) (evX6_isHolding l G) ?_
  intro as h K hT
  match as, hT with
  | [.ref a], ⟨S, l, e, ⟨hR, hS, hB, hX, hb20, hl, hn, hx⟩, hK⟩ =>
  refine ⟨Nat.le_of_ble_eq_true rfl, fun F hF => ?_⟩
  show F 0 [.ref a, .retAddr 0, .retAddr 0, .retAddr 0] [] h 0 0
  obtain ⟨a, rfl⟩ : ∃ i : Nat, i = a := ⟨_, rfl⟩
  subst e
  have n7 := hS.n7
  have hn0 : h.2.1 125 0 = nI S.ord.length := hS.n
  rw [← hn] at hn0
  have hbeh : ∀ p, (hdF (fun x => S.ahead.getD x 0) (l.take p)).1 < 2 ^ 7 := fun p => hdF_lt _ _ (by decide) (fun x hm => by have := hx x (List.mem_of_mem_take hm); omega)
  have loop : ∀ t p, p + t = l.length → F 6 [.ref 124, .int (nI (hdF (fun x => S.ahead.getD x 0) (l.take p)).1), .int (amC01 ((hdF (fun x => S.ahead.getD x 0) (l.take p)).2 = true)), .int (nI p)] [] h 0 0 := by
    intro t
    induction t with
    | zero =>
      intro p e1
      have e : p = l.length := by omega
      subst e
      rw [List.take_length]
      refine goX6_isHolding hF 30 ?_
      simp (disch := omega) only [wX6_isHolding_0, uX6_isHolding_0, wX6_isHolding_1, wX6_isHolding_2, wX6_isHolding_3, wX6_isHolding_4, wX6_isHolding_5, wX6_isHolding_6, uX6_isHolding_6, wX6_isHolding_7, wX6_isHolding_8, wX6_isHolding_11, wX6_isHolding_12, wX6_isHolding_13, wX6_isHolding_16, wX6_isHolding_17, wX6_isHolding_20, wX6_isHolding_21, wX6_isHolding_24, wX6_isHolding_26, wX6_isHolding_27, wX6_isHolding_30, wX6_isHolding_31, wX6_isHolding_32, wX6_isHolding_33, wX6_isHolding_34, wX6_isHolding_35, wX6_isHolding_36, wX6_isHolding_39, wX6_isHolding_40, wX6_isHolding_43, wX6_isHolding_44, uX6_isHolding_44, wX6_isHolding_45, wX6_isHolding_46, wX6_isHolding_47, wX6_isHolding_48, wX6_isHolding_51, wX6_isHolding_52, wX6_isHolding_53, wX6_isHolding_54, wX6_isHolding_55, wX6_isHolding_56, wX6_isHolding_59, wX6_isHolding_62, wX6_isHolding_63, amSI_1, amSI_2, amSI_3, amSI_s, amU_at, amIsR_ref, amIsR_null, amIsR_rf, amRf_some, amRf_none, amClr_int, amClr_ref, amClr_null, amClr_long, amClr_ra, amClr_rf, amFit_int, amFit_oref, amFit_aref, amFit_onull, amFit_anull, amOptSome, amOptNone, List.cons_append, List.nil_append, true_and, and_true, true_implies, not_true_eq_false, not_false_eq_true, false_implies, and_self, Nat.add_zero, Nat.zero_add, ne_eq, Prod.mk.injEq, amC01_0, amC01_1, amC01_nb, amNb0, amNb1, amTcpI_d, Nat.reduceLeDiff, Nat.reduceAdd, Nat.reduceSub, Nat.reduceEqDiff, Nat.le_refl, amN0le, hR.s, hR.r, amLeI, amLtI, amEqI, amLe0, amGt0, amEq0, amNotPosI, amGe0, amVI, amCl_nI, amAdd, amSub, amMul, hn0]
      exact amRet.of (by decide) (by decide) hK
    | succ t ih =>
      intro p e1
      have q : (l.length ≤ p) = False := eq_false (by omega)
      have hxp := hx _ (getD_mem (l := l) (p := p) (by omega))
      have mo := hl p (by omega)
      have nx := ih (p + 1) (by omega)
      rw [hdF_take (by omega), hdStep] at nx
      generalize hD : hdF (fun x => S.ahead.getD x 0) (l.take p) = D at nx
      have f44 : ∀ c, c = amC01 ((D.2 && (S.ahead.getD (l.getD p 0) 0 &&& D.1 == 0)) = true) → F 44 [.ref 124, .int (nI D.1), .int (amC01 (D.2 = true)), .int (nI p)] [.int c] h 0 0 := by
        intro c ec
        rw [← ec] at nx
        refine goX6_isHolding hF 30 ?_
        simp (disch := omega) only [wX6_isHolding_0, uX6_isHolding_0, wX6_isHolding_1, wX6_isHolding_2, wX6_isHolding_3, wX6_isHolding_4, wX6_isHolding_5, wX6_isHolding_6, uX6_isHolding_6, wX6_isHolding_7, wX6_isHolding_8, wX6_isHolding_11, wX6_isHolding_12, wX6_isHolding_13, wX6_isHolding_16, wX6_isHolding_17, wX6_isHolding_20, wX6_isHolding_21, wX6_isHolding_24, wX6_isHolding_26, wX6_isHolding_27, wX6_isHolding_30, wX6_isHolding_31, wX6_isHolding_32, wX6_isHolding_33, wX6_isHolding_34, wX6_isHolding_35, wX6_isHolding_36, wX6_isHolding_39, wX6_isHolding_40, wX6_isHolding_43, wX6_isHolding_44, uX6_isHolding_44, wX6_isHolding_45, wX6_isHolding_46, wX6_isHolding_47, wX6_isHolding_48, wX6_isHolding_51, wX6_isHolding_52, wX6_isHolding_53, wX6_isHolding_54, wX6_isHolding_55, wX6_isHolding_56, wX6_isHolding_59, wX6_isHolding_62, wX6_isHolding_63, amSI_1, amSI_2, amSI_3, amSI_s, amU_at, amIsR_ref, amIsR_null, amIsR_rf, amRf_some, amRf_none, amClr_int, amClr_ref, amClr_null, amClr_long, amClr_ra, amClr_rf, amFit_int, amFit_oref, amFit_aref, amFit_onull, amFit_anull, amOptSome, amOptNone, List.cons_append, List.nil_append, true_and, and_true, true_implies, not_true_eq_false, not_false_eq_true, false_implies, and_self, Nat.add_zero, Nat.zero_add, ne_eq, Prod.mk.injEq, amC01_0, amC01_1, amC01_nb, amNb0, amNb1, amTcpI_d, Nat.reduceLeDiff, Nat.reduceAdd, Nat.reduceSub, Nat.reduceEqDiff, Nat.le_refl, amN0le, hR.s, hR.r, amLeI, amLtI, amEqI, amLe0, amGt0, amEq0, amNotPosI, amGe0, amVI, amCl_nI, amAdd, amSub, amMul, mo, nx_p2, nx_or]
        exact nx
      have ma := hS.a0 (l.getD p 0) hxp
      have D7 : D.1 < 128 := by rw [← hD]; exact hbeh p
      have an : S.ahead.getD (l.getD p 0) 0 &&& D.1 ≤ D.1 := Nat.and_le_right
      refine goX6_isHolding hF 30 ?_
      simp (disch := omega) only [wX6_isHolding_0, uX6_isHolding_0, wX6_isHolding_1, wX6_isHolding_2, wX6_isHolding_3, wX6_isHolding_4, wX6_isHolding_5, wX6_isHolding_6, uX6_isHolding_6, wX6_isHolding_7, wX6_isHolding_8, wX6_isHolding_11, wX6_isHolding_12, wX6_isHolding_13, wX6_isHolding_16, wX6_isHolding_17, wX6_isHolding_20, wX6_isHolding_21, wX6_isHolding_24, wX6_isHolding_26, wX6_isHolding_27, wX6_isHolding_30, wX6_isHolding_31, wX6_isHolding_32, wX6_isHolding_33, wX6_isHolding_34, wX6_isHolding_35, wX6_isHolding_36, wX6_isHolding_39, wX6_isHolding_40, wX6_isHolding_43, wX6_isHolding_44, uX6_isHolding_44, wX6_isHolding_45, wX6_isHolding_46, wX6_isHolding_47, wX6_isHolding_48, wX6_isHolding_51, wX6_isHolding_52, wX6_isHolding_53, wX6_isHolding_54, wX6_isHolding_55, wX6_isHolding_56, wX6_isHolding_59, wX6_isHolding_62, wX6_isHolding_63, amSI_1, amSI_2, amSI_3, amSI_s, amU_at, amIsR_ref, amIsR_null, amIsR_rf, amRf_some, amRf_none, amClr_int, amClr_ref, amClr_null, amClr_long, amClr_ra, amClr_rf, amFit_int, amFit_oref, amFit_aref, amFit_onull, amFit_anull, amOptSome, amOptNone, List.cons_append, List.nil_append, true_and, and_true, true_implies, not_true_eq_false, not_false_eq_true, false_implies, and_self, Nat.add_zero, Nat.zero_add, ne_eq, Prod.mk.injEq, amC01_0, amC01_1, amC01_nb, amNb0, amNb1, amTcpI_d, Nat.reduceLeDiff, Nat.reduceAdd, Nat.reduceSub, Nat.reduceEqDiff, Nat.le_refl, amN0le, hR.s, hR.r, amLeI, amLtI, amEqI, amLe0, amGt0, amEq0, amNotPosI, amGe0, amVI, amCl_nI, amAdd, amSub, amMul, hn0, q, mo, ma, nx_and]
      refine ⟨fun r => f44 _ ?_, fun r => ⟨fun z => f44 _ ?_, fun z => f44 _ ?_⟩⟩
      · rw [amC01_f (by simp [r])]
      · rw [amC01_f (by rw [Bool.and_eq_true, beq_iff_eq]; exact fun y => z y.2)]
      · rw [amC01_t (by rw [Bool.and_eq_true, beq_iff_eq]; exact ⟨Classical.not_not.mp r, z⟩)]
  refine goX6_isHolding hF 30 ?_
  simp (disch := omega) only [wX6_isHolding_0, uX6_isHolding_0, wX6_isHolding_1, wX6_isHolding_2, wX6_isHolding_3, wX6_isHolding_4, wX6_isHolding_5, wX6_isHolding_6, uX6_isHolding_6, wX6_isHolding_7, wX6_isHolding_8, wX6_isHolding_11, wX6_isHolding_12, wX6_isHolding_13, wX6_isHolding_16, wX6_isHolding_17, wX6_isHolding_20, wX6_isHolding_21, wX6_isHolding_24, wX6_isHolding_26, wX6_isHolding_27, wX6_isHolding_30, wX6_isHolding_31, wX6_isHolding_32, wX6_isHolding_33, wX6_isHolding_34, wX6_isHolding_35, wX6_isHolding_36, wX6_isHolding_39, wX6_isHolding_40, wX6_isHolding_43, wX6_isHolding_44, uX6_isHolding_44, wX6_isHolding_45, wX6_isHolding_46, wX6_isHolding_47, wX6_isHolding_48, wX6_isHolding_51, wX6_isHolding_52, wX6_isHolding_53, wX6_isHolding_54, wX6_isHolding_55, wX6_isHolding_56, wX6_isHolding_59, wX6_isHolding_62, wX6_isHolding_63, amSI_1, amSI_2, amSI_3, amSI_s, amU_at, amIsR_ref, amIsR_null, amIsR_rf, amRf_some, amRf_none, amClr_int, amClr_ref, amClr_null, amClr_long, amClr_ra, amClr_rf, amFit_int, amFit_oref, amFit_aref, amFit_onull, amFit_anull, amOptSome, amOptNone, List.cons_append, List.nil_append, true_and, and_true, true_implies, not_true_eq_false, not_false_eq_true, false_implies, and_self, Nat.add_zero, Nat.zero_add, ne_eq, Prod.mk.injEq, amC01_0, amC01_1, amC01_nb, amNb0, amNb1, amTcpI_d, Nat.reduceLeDiff, Nat.reduceAdd, Nat.reduceSub, Nat.reduceEqDiff, Nat.le_refl, amN0le, hR.s, hR.r, amLeI, amLtI, amEqI, amLe0, amGt0, amEq0, amNotPosI, amGe0, amVI, amCl_nI, amAdd, amSub, amMul]
  exact loop l.length 0 (by omega)
theorem tX6_isHolding_d {a : Nat} {h : amH} {K : Option Value → amH → Prop} : tX6_isHolding [.ref a] h K = ∃ (S : HS) (l : List Nat), a = (124 : Nat) ∧ mdPre h S l ∧ K (some (.int (amC01 (S.holds l = true)))) h := rfl
def tX6_number : amT := fun as h K => match as with
  | [.ref a] => ∃ l : List Nat, a = (124 : Nat) ∧ mdAt h ∧ h.2.1 125 0 = nI l.length ∧ l.length ≤ 7 ∧ MoIs h.2.1 l ∧ K (some (.int (nI (numL l)))) h
  | _ => False
/-! ReadingStagesModel.number()I -/
def kX6_number : Nat → Bool := fun pc => pc == 4
def rX6_number : List (Nat × amS) := [(6, 1, 0, 0, amTget 6 0), (19, 1, 0, 0, amTget 6 12)]
def eX6_number (ret : Option Value → amH → Nat → Nat → Prop) (F : amX) : Nat → amX := amWp cX6_number kX6_number (amLk rX6_number) (some .int) 0 0 ret F
def sX6_number (ret : Option Value → amH → Nat → Nat → Prop) (F : amX) : Nat → amX := amWs cX6_number kX6_number (amLk rX6_number) (some .int) 0 0 ret F
theorem wX6_number_0 {ret F n h} {v0 v1 v2 st} : eX6_number ret F (n + 1) 0 [v0, v1, v2] (st) h 0 0 = (eX6_number ret F n 1 [v0, v1, v2] (.int (nI 0) :: st) h 0 0) := (amWp_dec rfl dX6_number_0 rfl).trans rfl
theorem uX6_number_0 {ret F n h} {v0 v1 v2 st} : sX6_number ret F n 0 [v0, v1, v2] (st) h 0 0 = (eX6_number ret F n 1 [v0, v1, v2] (.int (nI 0) :: st) h 0 0) := (amWs_dec dX6_number_0 rfl).trans rfl
theorem wX6_number_1 {ret F n h} {v0 v1 v2 st x} : eX6_number ret F (n + 1) 1 [v0, v1, v2] (.int x :: st) h 0 0 = (eX6_number ret F n 2 [amClr v0, .int x, v2] (st) h 0 0) := (amWp_dec rfl dX6_number_1 rfl).trans (amTrue (Nat.le_of_ble_eq_true rfl))
theorem wX6_number_2 {ret F n h} {v0 v1 v2 st} : eX6_number ret F (n + 1) 2 [v0, v1, v2] (st) h 0 0 = (eX6_number ret F n 3 [v0, v1, v2] (.int (nI 0) :: st) h 0 0) := (amWp_dec rfl dX6_number_2 rfl).trans rfl
theorem wX6_number_3 {ret F n h} {v0 v1 v2 st x} : eX6_number ret F (n + 1) 3 [v0, v1, v2] (.int x :: st) h 0 0 = (eX6_number ret F n 4 [v0, amClr v1, .int x] (st) h 0 0) := (amWp_dec rfl dX6_number_3 rfl).trans (amTrue (Nat.le_of_ble_eq_true rfl))
theorem wX6_number_4 {ret F n ls st h k z} : eX6_number ret F (n + 1) 4 ls st h k z = F 4 ls st h k z := amWp_cut rfl
theorem uX6_number_4 {ret F n h} {v0 v1 st x} : sX6_number ret F n 4 [v0, v1, .int x] (st) h 0 0 = (eX6_number ret F n 5 [v0, v1, .int x] (.int x :: st) h 0 0) := (amWs_dec dX6_number_4 rfl).trans rfl
theorem wX6_number_5 {ret F n h} {v0 v1 v2 st} : eX6_number ret F (n + 1) 5 [v0, v1, v2] (st) h 0 0 = (amIsR v0 ∧ eX6_number ret F n 6 [v0, v1, v2] (v0 :: st) h 0 0) := (amWp_dec rfl dX6_number_5 rfl).trans rfl
theorem wX6_number_6 {ret F n h} {v0 v1 v2 r0 a} : eX6_number ret F (n + 1) 6 [v0, v1, v2] (.ref a :: r0 :: []) h 0 0 = (h.1 a = (0, 6) ∧ eX6_number ret F n 9 [v0, v1, v2] (va_rf (h.2.2.2.1 a 0) :: r0 :: []) h 0 0) := (amWp_dec rfl dX6_number_6 rfl).trans (amS4 (Nat.le_of_ble_eq_true rfl) (Nat.le_of_ble_eq_true rfl) (Nat.le_of_ble_eq_true rfl) (Nat.le_of_ble_eq_true rfl))
theorem wX6_number_9 {ret F n h} {v0 v1 v2 st} : eX6_number ret F (n + 1) 9 [v0, v1, v2] (st) h 0 0 = (eX6_number ret F n 10 [v0, v1, v2] (.int (nI 0) :: st) h 0 0) := (amWp_dec rfl dX6_number_9 rfl).trans rfl
theorem wX6_number_10 {ret F n h} {v0 v1 v2 st x a} : eX6_number ret F (n + 1) 10 [v0, v1, v2] (.int x :: .ref a :: st) h 0 0 = ((h.1 a).1 = 1 ∧ vp_in x (h.1 a).2 ∧ eX6_number ret F n 11 [v0, v1, v2] (.int (h.2.1 a x.toNatClampNeg) :: st) h 0 0) := (amWp_dec rfl dX6_number_10 rfl).trans rfl
theorem wX6_number_11 {ret F n h} {v0 v1 v2 st y x} : eX6_number ret F (n + 1) 11 [v0, v1, v2] (.int y :: .int x :: st) h 0 0 = ((y ≤ x → eX6_number ret F n 32 [v0, v1, v2] (st) h 0 0) ∧ (¬ y ≤ x → eX6_number ret F n 14 [v0, v1, v2] (st) h 0 0)) := (amWp_dec rfl dX6_number_11 rfl).trans rfl
theorem wX6_number_14 {ret F n h} {v0 v1 v2 st} : eX6_number ret F (n + 1) 14 [v0, v1, v2] (st) h 0 0 = (eX6_number ret F n 16 [v0, v1, v2] (.int (nI 10) :: st) h 0 0) := (amWp_dec rfl dX6_number_14 rfl).trans rfl
theorem wX6_number_16 {ret F n h} {v0 v2 st x} : eX6_number ret F (n + 1) 16 [v0, .int x, v2] (st) h 0 0 = (eX6_number ret F n 17 [v0, .int x, v2] (.int x :: st) h 0 0) := (amWp_dec rfl dX6_number_16 rfl).trans rfl
theorem wX6_number_17 {ret F n h} {v0 v1 v2 st y x} : eX6_number ret F (n + 1) 17 [v0, v1, v2] (.int y :: .int x :: st) h 0 0 = (eX6_number ret F n 18 [v0, v1, v2] (.int (x * y) :: st) h 0 0) := (amWp_dec rfl dX6_number_17 rfl).trans rfl
theorem wX6_number_18 {ret F n h} {v0 v1 v2 st} : eX6_number ret F (n + 1) 18 [v0, v1, v2] (st) h 0 0 = (amIsR v0 ∧ eX6_number ret F n 19 [v0, v1, v2] (v0 :: st) h 0 0) := (amWp_dec rfl dX6_number_18 rfl).trans rfl
theorem wX6_number_19 {ret F n h} {v0 v1 v2 r0 a} : eX6_number ret F (n + 1) 19 [v0, v1, v2] (.ref a :: r0 :: []) h 0 0 = (h.1 a = (0, 6) ∧ eX6_number ret F n 22 [v0, v1, v2] (va_rf (h.2.2.2.1 a 12) :: r0 :: []) h 0 0) := (amWp_dec rfl dX6_number_19 rfl).trans (amS4 (Nat.le_of_ble_eq_true rfl) (Nat.le_of_ble_eq_true rfl) (Nat.le_of_ble_eq_true rfl) (Nat.le_of_ble_eq_true rfl))
theorem wX6_number_22 {ret F n h} {v0 v1 st x} : eX6_number ret F (n + 1) 22 [v0, v1, .int x] (st) h 0 0 = (eX6_number ret F n 23 [v0, v1, .int x] (.int x :: st) h 0 0) := (amWp_dec rfl dX6_number_22 rfl).trans rfl
theorem wX6_number_23 {ret F n h} {v0 v1 v2 st x a} : eX6_number ret F (n + 1) 23 [v0, v1, v2] (.int x :: .ref a :: st) h 0 0 = ((h.1 a).1 = 1 ∧ vp_in x (h.1 a).2 ∧ eX6_number ret F n 24 [v0, v1, v2] (.int (h.2.1 a x.toNatClampNeg) :: st) h 0 0) := (amWp_dec rfl dX6_number_23 rfl).trans rfl
theorem wX6_number_24 {ret F n h} {v0 v1 v2 st y x} : eX6_number ret F (n + 1) 24 [v0, v1, v2] (.int y :: .int x :: st) h 0 0 = (eX6_number ret F n 25 [v0, v1, v2] (.int (x + y) :: st) h 0 0) := (amWp_dec rfl dX6_number_24 rfl).trans rfl
theorem wX6_number_25 {ret F n h} {v0 v1 v2 st x} : eX6_number ret F (n + 1) 25 [v0, v1, v2] (.int x :: st) h 0 0 = (eX6_number ret F n 26 [amClr v0, .int x, v2] (st) h 0 0) := (amWp_dec rfl dX6_number_25 rfl).trans (amTrue (Nat.le_of_ble_eq_true rfl))
theorem wX6_number_26 {ret F n h} {v0 v1 st x} : eX6_number ret F (n + 1) 26 [v0, v1, .int x] (st) h 0 0 = (eX6_number ret F n 29 [v0, amClr v1, .int (x + nI 1)] (st) h 0 0) := (amWp_dec rfl dX6_number_26 rfl).trans rfl
theorem wX6_number_29 {ret F n h} {v0 v1 v2 st} : eX6_number ret F (n + 1) 29 [v0, v1, v2] (st) h 0 0 = (eX6_number ret F n 4 [v0, v1, v2] (st) h 0 0) := (amWp_dec rfl dX6_number_29 rfl).trans rfl
theorem wX6_number_32 {ret F n h} {v0 v2 st x} : eX6_number ret F (n + 1) 32 [v0, .int x, v2] (st) h 0 0 = (eX6_number ret F n 33 [v0, .int x, v2] (.int x :: st) h 0 0) := (amWp_dec rfl dX6_number_32 rfl).trans rfl
theorem wX6_number_33 {ret F n h} {v0 v1 v2 x} : eX6_number ret F (n + 1) 33 [v0, v1, v2] ([.int x]) h 0 0 = (ret (some (.int x)) h 0 0) := (amWp_dec rfl dX6_number_33 rfl).trans (amTrue ⟨_, rfl, rfl⟩)
theorem evX6_number (l : Launch) (G : amG) : ∀ pc S i sz, amLk rX6_number pc = some S → decode cX6_number pc = .ok (i, sz) → amSiteP pc G l yX6_number.cls yX6_number.name yX6_number.desc (amRm 1 0 0) i sz S.1 S.2.1 S.2.2.1 S.2.2.2 := amLk_ok (by
  refine List.forall_mem_cons.mpr ⟨⟨_, _, dX6_number_6, amSite.P (amSiteGet ⟨_, rfl, by decide, Or.inl q1295⟩)⟩, ?_⟩
  refine List.forall_mem_cons.mpr ⟨⟨_, _, dX6_number_19, amSite.P (amSiteGet ⟨_, rfl, by decide, Or.inl q1307⟩)⟩, ?_⟩
  exact fun _ h => absurd h List.not_mem_nil)
theorem goX6_number {ret F} (hF : amCld cX6_number kX6_number (amLk rX6_number) (some .int) 0 0 ret F) (n : Nat) {pc ls st h k z} (q : sX6_number ret F n pc ls st h k z) : F pc ls st h k z := hF.1 n pc ls st h k z q
theorem metX6_number (l : Launch) (G : amG) : amMet l G yX6_number (ws_ yX6_number cX6_number 3 (some .int)) 1 0 0 tX6_number := by
  refine amMet_of (cut := kX6_number) (by decide +kernel) (evX6_number l G) ?_
  intro as h K hT
  match as, hT with
  | [.ref a], ⟨l, e, hR, hn, n7, hl, hK⟩ =>
  refine ⟨Nat.le_of_ble_eq_true rfl, fun F hF => ?_⟩
  show F 0 [.ref a, .retAddr 0, .retAddr 0] [] h 0 0
  obtain ⟨a, rfl⟩ : ∃ i : Nat, i = a := ⟨_, rfl⟩
  subst e
  have loop : ∀ t p, p + t = l.length → F 4 [.ref 124, .int (nI (numL (l.take p))), .int (nI p)] [] h 0 0 := by
    intro t
    induction t with
    | zero =>
      intro p e1
      have e : p = l.length := by omega
      subst e
      rw [List.take_length]
      refine goX6_number hF 30 ?_
      simp (disch := omega) only [wX6_number_0, uX6_number_0, wX6_number_1, wX6_number_2, wX6_number_3, wX6_number_4, uX6_number_4, wX6_number_5, wX6_number_6, wX6_number_9, wX6_number_10, wX6_number_11, wX6_number_14, wX6_number_16, wX6_number_17, wX6_number_18, wX6_number_19, wX6_number_22, wX6_number_23, wX6_number_24, wX6_number_25, wX6_number_26, wX6_number_29, wX6_number_32, wX6_number_33, amSI_1, amSI_2, amSI_3, amSI_s, amU_at, amIsR_ref, amIsR_null, amIsR_rf, amRf_some, amRf_none, amClr_int, amClr_ref, amClr_null, amClr_long, amClr_ra, amClr_rf, amFit_int, amFit_oref, amFit_aref, amFit_onull, amFit_anull, amOptSome, amOptNone, List.cons_append, List.nil_append, true_and, and_true, true_implies, not_true_eq_false, not_false_eq_true, false_implies, and_self, Nat.add_zero, Nat.zero_add, ne_eq, Prod.mk.injEq, amC01_0, amC01_1, amC01_nb, amNb0, amNb1, amTcpI_d, Nat.reduceLeDiff, Nat.reduceAdd, Nat.reduceSub, Nat.reduceEqDiff, Nat.le_refl, amN0le, hR.s, hR.r, amLeI, amLtI, amEqI, amLe0, amGt0, amEq0, amNotPosI, amGe0, amVI, amCl_nI, amAdd, amSub, amMul, hn]
      exact amRet.of (by decide) (by decide) hK
    | succ t ih =>
      intro p e1
      have q : (l.length ≤ p) = False := eq_false (by omega)
      have mo := hl p (by omega)
      have nx := ih (p + 1) (by omega)
      rw [numL_take (by omega)] at nx
      refine goX6_number hF 30 ?_
      simp (disch := omega) only [wX6_number_0, uX6_number_0, wX6_number_1, wX6_number_2, wX6_number_3, wX6_number_4, uX6_number_4, wX6_number_5, wX6_number_6, wX6_number_9, wX6_number_10, wX6_number_11, wX6_number_14, wX6_number_16, wX6_number_17, wX6_number_18, wX6_number_19, wX6_number_22, wX6_number_23, wX6_number_24, wX6_number_25, wX6_number_26, wX6_number_29, wX6_number_32, wX6_number_33, amSI_1, amSI_2, amSI_3, amSI_s, amU_at, amIsR_ref, amIsR_null, amIsR_rf, amRf_some, amRf_none, amClr_int, amClr_ref, amClr_null, amClr_long, amClr_ra, amClr_rf, amFit_int, amFit_oref, amFit_aref, amFit_onull, amFit_anull, amOptSome, amOptNone, List.cons_append, List.nil_append, true_and, and_true, true_implies, not_true_eq_false, not_false_eq_true, false_implies, and_self, Nat.add_zero, Nat.zero_add, ne_eq, Prod.mk.injEq, amC01_0, amC01_1, amC01_nb, amNb0, amNb1, amTcpI_d, Nat.reduceLeDiff, Nat.reduceAdd, Nat.reduceSub, Nat.reduceEqDiff, Nat.le_refl, amN0le, hR.s, hR.r, amLeI, amLtI, amEqI, amLe0, amGt0, amEq0, amNotPosI, amGe0, amVI, amCl_nI, amAdd, amSub, amMul, hn, q, mo]
      exact nx
  refine goX6_number hF 30 ?_
  simp (disch := omega) only [wX6_number_0, uX6_number_0, wX6_number_1, wX6_number_2, wX6_number_3, wX6_number_4, uX6_number_4, wX6_number_5, wX6_number_6, wX6_number_9, wX6_number_10, wX6_number_11, wX6_number_14, wX6_number_16, wX6_number_17, wX6_number_18, wX6_number_19, wX6_number_22, wX6_number_23, wX6_number_24, wX6_number_25, wX6_number_26, wX6_number_29, wX6_number_32, wX6_number_33, amSI_1, amSI_2, amSI_3, amSI_s, amU_at, amIsR_ref, amIsR_null, amIsR_rf, amRf_some, amRf_none, amClr_int, amClr_ref, amClr_null, amClr_long, amClr_ra, amClr_rf, amFit_int, amFit_oref, amFit_aref, amFit_onull, amFit_anull, amOptSome, amOptNone, List.cons_append, List.nil_append, true_and, and_true, true_implies, not_true_eq_false, not_false_eq_true, false_implies, and_self, Nat.add_zero, Nat.zero_add, ne_eq, Prod.mk.injEq, amC01_0, amC01_1, amC01_nb, amNb0, amNb1, amTcpI_d, Nat.reduceLeDiff, Nat.reduceAdd, Nat.reduceSub, Nat.reduceEqDiff, Nat.le_refl, amN0le, hR.s, hR.r, amLeI, amLtI, amEqI, amLe0, amGt0, amEq0, amNotPosI, amGe0, amVI, amCl_nI, amAdd, amSub, amMul]
  exact loop l.length 0 (by omega)
theorem tX6_number_d {a : Nat} {h : amH} {K : Option Value → amH → Prop} : tX6_number [.ref a] h K = ∃ l : List Nat, a = (124 : Nat) ∧ mdAt h ∧ h.2.1 125 0 = nI l.length ∧ l.length ≤ 7 ∧ MoIs h.2.1 l ∧ K (some (.int (nI (numL l)))) h := rfl
theorem mNumber {h : amH} {S : HS} {l : List Nat} {K : Option Value → amH → Prop} (hp : mdPre h S l) (k : K (some (.int (nI (numL l)))) h) : tX6_number [.ref 124] h K := ⟨l, rfl, hp.1, by rw [hp.2.2.2.2.2.2.1]; exact hp.2.1.n, by rw [hp.2.2.2.2.2.2.1]; exact hp.2.1.n7, hp.2.2.2.2.2.1, k⟩
def tX6_takesOrder : amT := fun as h K => match as with
  | [.ref a] => a = (124 : Nat) ∧ mdAt h ∧ ∀ m', (∀ p : Nat, p < 7 → m' 134 p = h.2.1 125 (6 + p)) → (∀ i : Nat, i ≠ 134 → m' i = h.2.1 i) → K none (amSI h m')
  | _ => False
/-! ReadingStagesModel.takesOrder()V -/
def kX6_takesOrder : Nat → Bool := fun pc => pc == 2
def rX6_takesOrder : List (Nat × amS) := [(9, 1, 0, 0, amTget 6 12), (14, 1, 0, 0, amTget 6 0)]
def eX6_takesOrder (ret : Option Value → amH → Nat → Nat → Prop) (F : amX) : Nat → amX := amWp cX6_takesOrder kX6_takesOrder (amLk rX6_takesOrder) none 0 0 ret F
def sX6_takesOrder (ret : Option Value → amH → Nat → Nat → Prop) (F : amX) : Nat → amX := amWs cX6_takesOrder kX6_takesOrder (amLk rX6_takesOrder) none 0 0 ret F
theorem wX6_takesOrder_0 {ret F n h} {v0 v1 st} : eX6_takesOrder ret F (n + 1) 0 [v0, v1] (st) h 0 0 = (eX6_takesOrder ret F n 1 [v0, v1] (.int (nI 0) :: st) h 0 0) := (amWp_dec rfl dX6_takesOrder_0 rfl).trans rfl
theorem uX6_takesOrder_0 {ret F n h} {v0 v1 st} : sX6_takesOrder ret F n 0 [v0, v1] (st) h 0 0 = (eX6_takesOrder ret F n 1 [v0, v1] (.int (nI 0) :: st) h 0 0) := (amWs_dec dX6_takesOrder_0 rfl).trans rfl
theorem wX6_takesOrder_1 {ret F n h} {v0 v1 st x} : eX6_takesOrder ret F (n + 1) 1 [v0, v1] (.int x :: st) h 0 0 = (eX6_takesOrder ret F n 2 [amClr v0, .int x] (st) h 0 0) := (amWp_dec rfl dX6_takesOrder_1 rfl).trans (amTrue (Nat.le_of_ble_eq_true rfl))
theorem wX6_takesOrder_2 {ret F n ls st h k z} : eX6_takesOrder ret F (n + 1) 2 ls st h k z = F 2 ls st h k z := amWp_cut rfl
theorem uX6_takesOrder_2 {ret F n h} {v0 st x} : sX6_takesOrder ret F n 2 [v0, .int x] (st) h 0 0 = (eX6_takesOrder ret F n 3 [v0, .int x] (.int x :: st) h 0 0) := (amWs_dec dX6_takesOrder_2 rfl).trans rfl
theorem wX6_takesOrder_3 {ret F n h} {v0 v1 st} : eX6_takesOrder ret F (n + 1) 3 [v0, v1] (st) h 0 0 = (eX6_takesOrder ret F n 5 [v0, v1] (.int (nI 7) :: st) h 0 0) := (amWp_dec rfl dX6_takesOrder_3 rfl).trans rfl
theorem wX6_takesOrder_5 {ret F n h} {v0 v1 st y x} : eX6_takesOrder ret F (n + 1) 5 [v0, v1] (.int y :: .int x :: st) h 0 0 = ((y ≤ x → eX6_takesOrder ret F n 29 [v0, v1] (st) h 0 0) ∧ (¬ y ≤ x → eX6_takesOrder ret F n 8 [v0, v1] (st) h 0 0)) := (amWp_dec rfl dX6_takesOrder_5 rfl).trans rfl
theorem wX6_takesOrder_8 {ret F n h} {v0 v1 st} : eX6_takesOrder ret F (n + 1) 8 [v0, v1] (st) h 0 0 = (amIsR v0 ∧ eX6_takesOrder ret F n 9 [v0, v1] (v0 :: st) h 0 0) := (amWp_dec rfl dX6_takesOrder_8 rfl).trans rfl
theorem wX6_takesOrder_9 {ret F n h} {v0 v1 a} : eX6_takesOrder ret F (n + 1) 9 [v0, v1] (.ref a :: []) h 0 0 = (h.1 a = (0, 6) ∧ eX6_takesOrder ret F n 12 [v0, v1] (va_rf (h.2.2.2.1 a 12) :: []) h 0 0) := (amWp_dec rfl dX6_takesOrder_9 rfl).trans (amS4 (Nat.le_of_ble_eq_true rfl) (Nat.le_of_ble_eq_true rfl) (Nat.le_of_ble_eq_true rfl) (Nat.le_of_ble_eq_true rfl))
theorem wX6_takesOrder_12 {ret F n h} {v0 st x} : eX6_takesOrder ret F (n + 1) 12 [v0, .int x] (st) h 0 0 = (eX6_takesOrder ret F n 13 [v0, .int x] (.int x :: st) h 0 0) := (amWp_dec rfl dX6_takesOrder_12 rfl).trans rfl
theorem wX6_takesOrder_13 {ret F n h} {v0 v1 st} : eX6_takesOrder ret F (n + 1) 13 [v0, v1] (st) h 0 0 = (amIsR v0 ∧ eX6_takesOrder ret F n 14 [v0, v1] (v0 :: st) h 0 0) := (amWp_dec rfl dX6_takesOrder_13 rfl).trans rfl
theorem wX6_takesOrder_14 {ret F n h} {v0 v1 r0 r1 a} : eX6_takesOrder ret F (n + 1) 14 [v0, v1] (.ref a :: r0 :: r1 :: []) h 0 0 = (h.1 a = (0, 6) ∧ eX6_takesOrder ret F n 17 [v0, v1] (va_rf (h.2.2.2.1 a 0) :: r0 :: r1 :: []) h 0 0) := (amWp_dec rfl dX6_takesOrder_14 rfl).trans (amS4 (Nat.le_of_ble_eq_true rfl) (Nat.le_of_ble_eq_true rfl) (Nat.le_of_ble_eq_true rfl) (Nat.le_of_ble_eq_true rfl))
theorem wX6_takesOrder_17 {ret F n h} {v0 v1 st} : eX6_takesOrder ret F (n + 1) 17 [v0, v1] (st) h 0 0 = (eX6_takesOrder ret F n 19 [v0, v1] (.int (nI 6) :: st) h 0 0) := (amWp_dec rfl dX6_takesOrder_17 rfl).trans rfl
theorem wX6_takesOrder_19 {ret F n h} {v0 st x} : eX6_takesOrder ret F (n + 1) 19 [v0, .int x] (st) h 0 0 = (eX6_takesOrder ret F n 20 [v0, .int x] (.int x :: st) h 0 0) := (amWp_dec rfl dX6_takesOrder_19 rfl).trans rfl
theorem wX6_takesOrder_20 {ret F n h} {v0 v1 st y x} : eX6_takesOrder ret F (n + 1) 20 [v0, v1] (.int y :: .int x :: st) h 0 0 = (eX6_takesOrder ret F n 21 [v0, v1] (.int (x + y) :: st) h 0 0) := (amWp_dec rfl dX6_takesOrder_20 rfl).trans rfl
theorem wX6_takesOrder_21 {ret F n h} {v0 v1 st x a} : eX6_takesOrder ret F (n + 1) 21 [v0, v1] (.int x :: .ref a :: st) h 0 0 = ((h.1 a).1 = 1 ∧ vp_in x (h.1 a).2 ∧ eX6_takesOrder ret F n 22 [v0, v1] (.int (h.2.1 a x.toNatClampNeg) :: st) h 0 0) := (amWp_dec rfl dX6_takesOrder_21 rfl).trans rfl
theorem wX6_takesOrder_22 {ret F n h} {v0 v1 st y x a} : eX6_takesOrder ret F (n + 1) 22 [v0, v1] (.int y :: .int x :: .ref a :: st) h 0 0 = ((h.1 a).1 = 1 ∧ vp_in x (h.1 a).2 ∧ amN0 ≤ a ∧ eX6_takesOrder ret F n 23 [v0, v1] (st) (amSI h (amU h.2.1 a x.toNatClampNeg y)) 0 0) := (amWp_dec rfl dX6_takesOrder_22 rfl).trans rfl
theorem wX6_takesOrder_23 {ret F n h} {v0 st x} : eX6_takesOrder ret F (n + 1) 23 [v0, .int x] (st) h 0 0 = (eX6_takesOrder ret F n 26 [amClr v0, .int (x + nI 1)] (st) h 0 0) := (amWp_dec rfl dX6_takesOrder_23 rfl).trans rfl
theorem wX6_takesOrder_26 {ret F n h} {v0 v1 st} : eX6_takesOrder ret F (n + 1) 26 [v0, v1] (st) h 0 0 = (eX6_takesOrder ret F n 2 [v0, v1] (st) h 0 0) := (amWp_dec rfl dX6_takesOrder_26 rfl).trans rfl
theorem wX6_takesOrder_29 {ret F n h} {v0 v1} : eX6_takesOrder ret F (n + 1) 29 [v0, v1] ([]) h 0 0 = (ret none h 0 0) := (amWp_dec rfl dX6_takesOrder_29 rfl).trans (amTrue rfl)
theorem evX6_takesOrder (l : Launch) (G : amG) : ∀ pc S i sz, amLk rX6_takesOrder pc = some S → decode cX6_takesOrder pc = .ok (i, sz) → amSiteP pc G l yX6_takesOrder.cls yX6_takesOrder.name yX6_takesOrder.desc (amRm 1 0 0) i sz S.1 S.2.1 S.2.2.1 S.2.2.2 := amLk_ok (by
  refine List.forall_mem_cons.mpr ⟨⟨_, _, dX6_takesOrder_9, amSite.P (amSiteGet ⟨_, rfl, by decide, Or.inl q1307⟩)⟩, ?_⟩
  refine List.forall_mem_cons.mpr ⟨⟨_, _, dX6_takesOrder_14, amSite.P (amSiteGet ⟨_, rfl, by decide, Or.inl q1295⟩)⟩, ?_⟩
  exact fun _ h => absurd h List.not_mem_nil)
theorem goX6_takesOrder {ret F} (hF : amCld cX6_takesOrder kX6_takesOrder (amLk rX6_takesOrder) none 0 0 ret F) (n : Nat) {pc ls st h k z} (q : sX6_takesOrder ret F n pc ls st h k z) : F pc ls st h k z := hF.1 n pc ls st h k z q
theorem metX6_takesOrder (l : Launch) (G : amG) : amMet l G yX6_takesOrder (ws_ yX6_takesOrder cX6_takesOrder 2 none) 1 0 0 tX6_takesOrder := by
  refine amMet_of (cut := kX6_takesOrder) (by decide +kernel) (evX6_takesOrder l G) ?_
  intro as h K hT
  match as, hT with
  | [.ref a], ⟨e, hR, hK⟩ =>
  refine ⟨Nat.le_of_ble_eq_true rfl, fun F hF => ?_⟩
  show F 0 [.ref a, .retAddr 0] [] h 0 0
  obtain ⟨a, rfl⟩ : ∃ i : Nat, i = a := ⟨_, rfl⟩
  subst e
  have loop : ∀ t p m, p + t = 7 → (∀ w : Nat, w < p → m 134 w = h.2.1 125 (6 + w)) → (∀ i : Nat, i ≠ 134 → m i = h.2.1 i) → F 2 [.ref 124, .int (nI p)] [] (amSI h m) 0 0 := by
    intro t
    induction t with
    | zero =>
      intro p m e1 i1 i2
      have e : p = 7 := by omega
      subst e
      refine goX6_takesOrder hF 30 ?_
      simp (disch := omega) only [wX6_takesOrder_0, uX6_takesOrder_0, wX6_takesOrder_1, wX6_takesOrder_2, uX6_takesOrder_2, wX6_takesOrder_3, wX6_takesOrder_5, wX6_takesOrder_8, wX6_takesOrder_9, wX6_takesOrder_12, wX6_takesOrder_13, wX6_takesOrder_14, wX6_takesOrder_17, wX6_takesOrder_19, wX6_takesOrder_20, wX6_takesOrder_21, wX6_takesOrder_22, wX6_takesOrder_23, wX6_takesOrder_26, wX6_takesOrder_29, amSI_1, amSI_2, amSI_3, amSI_s, amU_at, amIsR_ref, amIsR_null, amIsR_rf, amRf_some, amRf_none, amClr_int, amClr_ref, amClr_null, amClr_long, amClr_ra, amClr_rf, amFit_int, amFit_oref, amFit_aref, amFit_onull, amFit_anull, amOptSome, amOptNone, List.cons_append, List.nil_append, true_and, and_true, true_implies, not_true_eq_false, not_false_eq_true, false_implies, and_self, Nat.add_zero, Nat.zero_add, ne_eq, Prod.mk.injEq, amC01_0, amC01_1, amC01_nb, amNb0, amNb1, amTcpI_d, Nat.reduceLeDiff, Nat.reduceAdd, Nat.reduceSub, Nat.reduceEqDiff, Nat.le_refl, amN0le, hR.s, hR.r, amLeI, amLtI, amEqI, amLe0, amGt0, amEq0, amNotPosI, amGe0, amVI, amCl_nI, amAdd, amSub, amMul]
      exact amRet.of (by decide) (by decide) (hK m i1 i2)
    | succ t ih =>
      intro p m e1 i1 i2
      have q : (7 ≤ p) = False := eq_false (by omega)
      have nx := ih (p + 1) (amU m 134 p (m 125 (6 + p))) (by omega) (fun w hw => by
        by_cases e : w = p
        · subst e
          simp (disch := omega) only [amU_at, amU_ne, amU_nj, amU_neR, up_ne, up_at, amSI_2]
          rw [i2 125 (by decide)]
        · simp (disch := omega) only [amU_at, amU_ne, amU_nj, amU_neR, up_ne, up_at, amSI_2]
          exact i1 w (by omega)) (fun i hi => by
        simp (disch := omega) only [amU_at, amU_ne, amU_nj, amU_neR, up_ne, up_at, amSI_2]
        exact i2 i hi)
      refine goX6_takesOrder hF 30 ?_
      simp (disch := omega) only [wX6_takesOrder_0, uX6_takesOrder_0, wX6_takesOrder_1, wX6_takesOrder_2, uX6_takesOrder_2, wX6_takesOrder_3, wX6_takesOrder_5, wX6_takesOrder_8, wX6_takesOrder_9, wX6_takesOrder_12, wX6_takesOrder_13, wX6_takesOrder_14, wX6_takesOrder_17, wX6_takesOrder_19, wX6_takesOrder_20, wX6_takesOrder_21, wX6_takesOrder_22, wX6_takesOrder_23, wX6_takesOrder_26, wX6_takesOrder_29, amSI_1, amSI_2, amSI_3, amSI_s, amU_at, amIsR_ref, amIsR_null, amIsR_rf, amRf_some, amRf_none, amClr_int, amClr_ref, amClr_null, amClr_long, amClr_ra, amClr_rf, amFit_int, amFit_oref, amFit_aref, amFit_onull, amFit_anull, amOptSome, amOptNone, List.cons_append, List.nil_append, true_and, and_true, true_implies, not_true_eq_false, not_false_eq_true, false_implies, and_self, Nat.add_zero, Nat.zero_add, ne_eq, Prod.mk.injEq, amC01_0, amC01_1, amC01_nb, amNb0, amNb1, amTcpI_d, Nat.reduceLeDiff, Nat.reduceAdd, Nat.reduceSub, Nat.reduceEqDiff, Nat.le_refl, amN0le, hR.s, hR.r, amLeI, amLtI, amEqI, amLe0, amGt0, amEq0, amNotPosI, amGe0, amVI, amCl_nI, amAdd, amSub, amMul, q]
      exact nx
  refine goX6_takesOrder hF 30 ?_
  simp (disch := omega) only [wX6_takesOrder_0, uX6_takesOrder_0, wX6_takesOrder_1, wX6_takesOrder_2, uX6_takesOrder_2, wX6_takesOrder_3, wX6_takesOrder_5, wX6_takesOrder_8, wX6_takesOrder_9, wX6_takesOrder_12, wX6_takesOrder_13, wX6_takesOrder_14, wX6_takesOrder_17, wX6_takesOrder_19, wX6_takesOrder_20, wX6_takesOrder_21, wX6_takesOrder_22, wX6_takesOrder_23, wX6_takesOrder_26, wX6_takesOrder_29, amSI_1, amSI_2, amSI_3, amSI_s, amU_at, amIsR_ref, amIsR_null, amIsR_rf, amRf_some, amRf_none, amClr_int, amClr_ref, amClr_null, amClr_long, amClr_ra, amClr_rf, amFit_int, amFit_oref, amFit_aref, amFit_onull, amFit_anull, amOptSome, amOptNone, List.cons_append, List.nil_append, true_and, and_true, true_implies, not_true_eq_false, not_false_eq_true, false_implies, and_self, Nat.add_zero, Nat.zero_add, ne_eq, Prod.mk.injEq, amC01_0, amC01_1, amC01_nb, amNb0, amNb1, amTcpI_d, Nat.reduceLeDiff, Nat.reduceAdd, Nat.reduceSub, Nat.reduceEqDiff, Nat.le_refl, amN0le, hR.s, hR.r]
  exact loop 7 0 h.2.1 (by omega) (fun w hw => absurd hw (Nat.not_lt_zero w)) (fun i _ => rfl)
theorem tX6_takesOrder_d {a : Nat} {h : amH} {K : Option Value → amH → Prop} : tX6_takesOrder [.ref a] h K = (a = (124 : Nat) ∧ mdAt h ∧ ∀ m', (∀ p : Nat, p < 7 → m' 134 p = h.2.1 125 (6 + p)) → (∀ i : Nat, i ≠ 134 → m' i = h.2.1 i) → K none (amSI h m')) := rfl
def tX6_firstOrder : amT := fun as h K => match as with
  | [.ref a] => a = (124 : Nat) ∧ mdAt h ∧ ∀ m', (∀ p : Nat, p < 7 → m' 134 p = nI p) → (∀ i : Nat, i ≠ 134 → m' i = h.2.1 i) → K none (amSI h m')
  | _ => False
/-! ReadingStagesModel.firstOrder()V -/
def kX6_firstOrder : Nat → Bool := fun pc => pc == 2
def rX6_firstOrder : List (Nat × amS) := [(9, 1, 0, 0, amTget 6 12)]
def eX6_firstOrder (ret : Option Value → amH → Nat → Nat → Prop) (F : amX) : Nat → amX := amWp cX6_firstOrder kX6_firstOrder (amLk rX6_firstOrder) none 0 0 ret F
def sX6_firstOrder (ret : Option Value → amH → Nat → Nat → Prop) (F : amX) : Nat → amX := amWs cX6_firstOrder kX6_firstOrder (amLk rX6_firstOrder) none 0 0 ret F
theorem wX6_firstOrder_0 {ret F n h} {v0 v1 st} : eX6_firstOrder ret F (n + 1) 0 [v0, v1] (st) h 0 0 = (eX6_firstOrder ret F n 1 [v0, v1] (.int (nI 0) :: st) h 0 0) := (amWp_dec rfl dX6_firstOrder_0 rfl).trans rfl
theorem uX6_firstOrder_0 {ret F n h} {v0 v1 st} : sX6_firstOrder ret F n 0 [v0, v1] (st) h 0 0 = (eX6_firstOrder ret F n 1 [v0, v1] (.int (nI 0) :: st) h 0 0) := (amWs_dec dX6_firstOrder_0 rfl).trans rfl
theorem wX6_firstOrder_1 {ret F n h} {v0 v1 st x} : eX6_firstOrder ret F (n + 1) 1 [v0, v1] (.int x :: st) h 0 0 = (eX6_firstOrder ret F n 2 [amClr v0, .int x] (st) h 0 0) := (amWp_dec rfl dX6_firstOrder_1 rfl).trans (amTrue (Nat.le_of_ble_eq_true rfl))
theorem wX6_firstOrder_2 {ret F n ls st h k z} : eX6_firstOrder ret F (n + 1) 2 ls st h k z = F 2 ls st h k z := amWp_cut rfl
theorem uX6_firstOrder_2 {ret F n h} {v0 st x} : sX6_firstOrder ret F n 2 [v0, .int x] (st) h 0 0 = (eX6_firstOrder ret F n 3 [v0, .int x] (.int x :: st) h 0 0) := (amWs_dec dX6_firstOrder_2 rfl).trans rfl
theorem wX6_firstOrder_3 {ret F n h} {v0 v1 st} : eX6_firstOrder ret F (n + 1) 3 [v0, v1] (st) h 0 0 = (eX6_firstOrder ret F n 5 [v0, v1] (.int (nI 7) :: st) h 0 0) := (amWp_dec rfl dX6_firstOrder_3 rfl).trans rfl
theorem wX6_firstOrder_5 {ret F n h} {v0 v1 st y x} : eX6_firstOrder ret F (n + 1) 5 [v0, v1] (.int y :: .int x :: st) h 0 0 = ((y ≤ x → eX6_firstOrder ret F n 21 [v0, v1] (st) h 0 0) ∧ (¬ y ≤ x → eX6_firstOrder ret F n 8 [v0, v1] (st) h 0 0)) := (amWp_dec rfl dX6_firstOrder_5 rfl).trans rfl
theorem wX6_firstOrder_8 {ret F n h} {v0 v1 st} : eX6_firstOrder ret F (n + 1) 8 [v0, v1] (st) h 0 0 = (amIsR v0 ∧ eX6_firstOrder ret F n 9 [v0, v1] (v0 :: st) h 0 0) := (amWp_dec rfl dX6_firstOrder_8 rfl).trans rfl
theorem wX6_firstOrder_9 {ret F n h} {v0 v1 a} : eX6_firstOrder ret F (n + 1) 9 [v0, v1] (.ref a :: []) h 0 0 = (h.1 a = (0, 6) ∧ eX6_firstOrder ret F n 12 [v0, v1] (va_rf (h.2.2.2.1 a 12) :: []) h 0 0) := (amWp_dec rfl dX6_firstOrder_9 rfl).trans (amS4 (Nat.le_of_ble_eq_true rfl) (Nat.le_of_ble_eq_true rfl) (Nat.le_of_ble_eq_true rfl) (Nat.le_of_ble_eq_true rfl))
theorem wX6_firstOrder_12 {ret F n h} {v0 st x} : eX6_firstOrder ret F (n + 1) 12 [v0, .int x] (st) h 0 0 = (eX6_firstOrder ret F n 13 [v0, .int x] (.int x :: st) h 0 0) := (amWp_dec rfl dX6_firstOrder_12 rfl).trans rfl
theorem wX6_firstOrder_13 {ret F n h} {v0 st x} : eX6_firstOrder ret F (n + 1) 13 [v0, .int x] (st) h 0 0 = (eX6_firstOrder ret F n 14 [v0, .int x] (.int x :: st) h 0 0) := (amWp_dec rfl dX6_firstOrder_13 rfl).trans rfl
theorem wX6_firstOrder_14 {ret F n h} {v0 v1 st y x a} : eX6_firstOrder ret F (n + 1) 14 [v0, v1] (.int y :: .int x :: .ref a :: st) h 0 0 = ((h.1 a).1 = 1 ∧ vp_in x (h.1 a).2 ∧ amN0 ≤ a ∧ eX6_firstOrder ret F n 15 [v0, v1] (st) (amSI h (amU h.2.1 a x.toNatClampNeg y)) 0 0) := (amWp_dec rfl dX6_firstOrder_14 rfl).trans rfl
theorem wX6_firstOrder_15 {ret F n h} {v0 st x} : eX6_firstOrder ret F (n + 1) 15 [v0, .int x] (st) h 0 0 = (eX6_firstOrder ret F n 18 [amClr v0, .int (x + nI 1)] (st) h 0 0) := (amWp_dec rfl dX6_firstOrder_15 rfl).trans rfl
theorem wX6_firstOrder_18 {ret F n h} {v0 v1 st} : eX6_firstOrder ret F (n + 1) 18 [v0, v1] (st) h 0 0 = (eX6_firstOrder ret F n 2 [v0, v1] (st) h 0 0) := (amWp_dec rfl dX6_firstOrder_18 rfl).trans rfl
theorem wX6_firstOrder_21 {ret F n h} {v0 v1} : eX6_firstOrder ret F (n + 1) 21 [v0, v1] ([]) h 0 0 = (ret none h 0 0) := (amWp_dec rfl dX6_firstOrder_21 rfl).trans (amTrue rfl)
theorem evX6_firstOrder (l : Launch) (G : amG) : ∀ pc S i sz, amLk rX6_firstOrder pc = some S → decode cX6_firstOrder pc = .ok (i, sz) → amSiteP pc G l yX6_firstOrder.cls yX6_firstOrder.name yX6_firstOrder.desc (amRm 1 0 0) i sz S.1 S.2.1 S.2.2.1 S.2.2.2 := amLk_ok (by
  refine List.forall_mem_cons.mpr ⟨⟨_, _, dX6_firstOrder_9, amSite.P (amSiteGet ⟨_, rfl, by decide, Or.inl q1307⟩)⟩, ?_⟩
  exact fun _ h => absurd h List.not_mem_nil)
theorem goX6_firstOrder {ret F} (hF : amCld cX6_firstOrder kX6_firstOrder (amLk rX6_firstOrder) none 0 0 ret F) (n : Nat) {pc ls st h k z} (q : sX6_firstOrder ret F n pc ls st h k z) : F pc ls st h k z := hF.1 n pc ls st h k z q
theorem metX6_firstOrder (l : Launch) (G : amG) : amMet l G yX6_firstOrder (ws_ yX6_firstOrder cX6_firstOrder 2 none) 1 0 0 tX6_firstOrder := by
  refine amMet_of (cut := kX6_firstOrder) (by decide +kernel) (evX6_firstOrder l G) ?_
  intro as h K hT
  match as, hT with
  | [.ref a], ⟨e, hR, hK⟩ =>
  refine ⟨Nat.le_of_ble_eq_true rfl, fun F hF => ?_⟩
  show F 0 [.ref a, .retAddr 0] [] h 0 0
  obtain ⟨a, rfl⟩ : ∃ i : Nat, i = a := ⟨_, rfl⟩
  subst e
  have loop : ∀ t p m, p + t = 7 → (∀ w : Nat, w < p → m 134 w = nI w) → (∀ i : Nat, i ≠ 134 → m i = h.2.1 i) → F 2 [.ref 124, .int (nI p)] [] (amSI h m) 0 0 := by
    intro t
    induction t with
    | zero =>
      intro p m e1 i1 i2
      have e : p = 7 := by omega
      subst e
      refine goX6_firstOrder hF 30 ?_
      simp (disch := omega) only [wX6_firstOrder_0, uX6_firstOrder_0, wX6_firstOrder_1, wX6_firstOrder_2, uX6_firstOrder_2, wX6_firstOrder_3, wX6_firstOrder_5, wX6_firstOrder_8, wX6_firstOrder_9, wX6_firstOrder_12, wX6_firstOrder_13, wX6_firstOrder_14, wX6_firstOrder_15, wX6_firstOrder_18, wX6_firstOrder_21, amSI_1, amSI_2, amSI_3, amSI_s, amU_at, amIsR_ref, amIsR_null, amIsR_rf, amRf_some, amRf_none, amClr_int, amClr_ref, amClr_null, amClr_long, amClr_ra, amClr_rf, amFit_int, amFit_oref, amFit_aref, amFit_onull, amFit_anull, amOptSome, amOptNone, List.cons_append, List.nil_append, true_and, and_true, true_implies, not_true_eq_false, not_false_eq_true, false_implies, and_self, Nat.add_zero, Nat.zero_add, ne_eq, Prod.mk.injEq, amC01_0, amC01_1, amC01_nb, amNb0, amNb1, amTcpI_d, Nat.reduceLeDiff, Nat.reduceAdd, Nat.reduceSub, Nat.reduceEqDiff, Nat.le_refl, amN0le, hR.s, hR.r, amLeI, amLtI, amEqI, amLe0, amGt0, amEq0, amNotPosI, amGe0, amVI, amCl_nI, amAdd, amSub, amMul]
      exact amRet.of (by decide) (by decide) (hK m i1 i2)
    | succ t ih =>
      intro p m e1 i1 i2
      have q : (7 ≤ p) = False := eq_false (by omega)
      have nx := ih (p + 1) (amU m 134 p (nI p)) (by omega) (fun w hw => by
        by_cases e : w = p
        · subst e
          simp (disch := omega) only [amU_at, amU_ne, amU_nj, amU_neR, up_ne, up_at, amSI_2]
        · simp (disch := omega) only [amU_at, amU_ne, amU_nj, amU_neR, up_ne, up_at, amSI_2]
          exact i1 w (by omega)) (fun i hi => by
        simp (disch := omega) only [amU_at, amU_ne, amU_nj, amU_neR, up_ne, up_at, amSI_2]
        exact i2 i hi)
      refine goX6_firstOrder hF 30 ?_
      simp (disch := omega) only [wX6_firstOrder_0, uX6_firstOrder_0, wX6_firstOrder_1, wX6_firstOrder_2, uX6_firstOrder_2, wX6_firstOrder_3, wX6_firstOrder_5, wX6_firstOrder_8, wX6_firstOrder_9, wX6_firstOrder_12, wX6_firstOrder_13, wX6_firstOrder_14, wX6_firstOrder_15, wX6_firstOrder_18, wX6_firstOrder_21, amSI_1, amSI_2, amSI_3, amSI_s, amU_at, amIsR_ref, amIsR_null, amIsR_rf, amRf_some, amRf_none, amClr_int, amClr_ref, amClr_null, amClr_long, amClr_ra, amClr_rf, amFit_int, amFit_oref, amFit_aref, amFit_onull, amFit_anull, amOptSome, amOptNone, List.cons_append, List.nil_append, true_and, and_true, true_implies, not_true_eq_false, not_false_eq_true, false_implies, and_self, Nat.add_zero, Nat.zero_add, ne_eq, Prod.mk.injEq, amC01_0, amC01_1, amC01_nb, amNb0, amNb1, amTcpI_d, Nat.reduceLeDiff, Nat.reduceAdd, Nat.reduceSub, Nat.reduceEqDiff, Nat.le_refl, amN0le, hR.s, hR.r, amLeI, amLtI, amEqI, amLe0, amGt0, amEq0, amNotPosI, amGe0, amVI, amCl_nI, amAdd, amSub, amMul, q]
      exact nx
  refine goX6_firstOrder hF 30 ?_
  simp (disch := omega) only [wX6_firstOrder_0, uX6_firstOrder_0, wX6_firstOrder_1, wX6_firstOrder_2, uX6_firstOrder_2, wX6_firstOrder_3, wX6_firstOrder_5, wX6_firstOrder_8, wX6_firstOrder_9, wX6_firstOrder_12, wX6_firstOrder_13, wX6_firstOrder_14, wX6_firstOrder_15, wX6_firstOrder_18, wX6_firstOrder_21, amSI_1, amSI_2, amSI_3, amSI_s, amU_at, amIsR_ref, amIsR_null, amIsR_rf, amRf_some, amRf_none, amClr_int, amClr_ref, amClr_null, amClr_long, amClr_ra, amClr_rf, amFit_int, amFit_oref, amFit_aref, amFit_onull, amFit_anull, amOptSome, amOptNone, List.cons_append, List.nil_append, true_and, and_true, true_implies, not_true_eq_false, not_false_eq_true, false_implies, and_self, Nat.add_zero, Nat.zero_add, ne_eq, Prod.mk.injEq, amC01_0, amC01_1, amC01_nb, amNb0, amNb1, amTcpI_d, Nat.reduceLeDiff, Nat.reduceAdd, Nat.reduceSub, Nat.reduceEqDiff, Nat.le_refl, amN0le, hR.s, hR.r]
  exact loop 7 0 h.2.1 (by omega) (fun w hw => absurd hw (Nat.not_lt_zero w)) (fun i _ => rfl)
theorem tX6_firstOrder_d {a : Nat} {h : amH} {K : Option Value → amH → Prop} : tX6_firstOrder [.ref a] h K = (a = (124 : Nat) ∧ mdAt h ∧ ∀ m', (∀ p : Nat, p < 7 → m' 134 p = nI p) → (∀ i : Nat, i ≠ 134 → m' i = h.2.1 i) → K none (amSI h m')) := rfl
