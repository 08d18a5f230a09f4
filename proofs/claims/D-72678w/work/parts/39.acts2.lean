/-! acts: words, lose, prior, ahead -/
set_option maxRecDepth 100000
theorem HsIs.setW {m : Nat → Nat → Int32} {a : Nat} {S : HS} (q : HsIs m a S) {k v : Nat} (hk : k < S.ord.length) : HsIs (amU m (a + 1) k (nI v)) a (S.setW k v) := by
  refine HsIs.mk (q.ord.kept (by funext j; simp (disch := omega) only [amU_at, amU_ne, amU_nj, amU_neR, up_ne, up_at, amSI_2]) (by funext j; simp (disch := omega) only [amU_at, amU_ne, amU_nj, amU_neR, up_ne, up_at, amSI_2])) ?_ q.la (fun i hi => ?_) (fun i hi => ?_) ?_ ?_ ?_ ?_ ?_ q.ba
  · show (S.sets.set k v).length = _
    rw [List.length_set]; exact q.ls
  · show _ = nI ((S.sets.set k v).getD i 0)
    rw [setl_getD (by rw [q.ls]; exact hk)]
    by_cases e : i = k
    · subst e; rw [if_pos rfl]; simp (disch := omega) only [amU_at, amU_ne, amU_nj, amU_neR, up_ne, up_at, amSI_2]
    · rw [if_neg e]
      simp (disch := omega) only [amU_at, amU_ne, amU_nj, amU_neR, up_ne, up_at, amSI_2]
      exact q.sets i hi
  · simp (disch := omega) only [amU_at, amU_ne, amU_nj, amU_neR, up_ne, up_at, amSI_2]
    exact q.ahead i hi
  · simp (disch := omega) only [amU_at, amU_ne, amU_nj, amU_neR, up_ne, up_at, amSI_2]
    exact q.prior
  · simp (disch := omega) only [amU_at, amU_ne, amU_nj, amU_neR, up_ne, up_at, amSI_2]
    exact q.span
  · simp (disch := omega) only [amU_at, amU_ne, amU_nj, amU_neR, up_ne, up_at, amSI_2]
    exact q.bound
  · simp (disch := omega) only [amU_at, amU_ne, amU_nj, amU_neR, up_ne, up_at, amSI_2]
    exact q.rule
  · simp (disch := omega) only [amU_at, amU_ne, amU_nj, amU_neR, up_ne, up_at, amSI_2]
    exact q.draw
theorem HsIs.setP {m : Nat → Nat → Int32} {a : Nat} {S : HS} (q : HsIs m a S) {v : Nat} : HsIs (amU m a 3 (nI v)) a (S.setP v) := by
  refine HsIs.mk (q.ord.kept (by funext j; simp (disch := omega) only [amU_at, amU_ne, amU_nj, amU_neR, up_ne, up_at, amSI_2]) (by funext j; simp (disch := omega) only [amU_at, amU_ne, amU_nj, amU_neR, up_ne, up_at, amSI_2])) q.ls q.la (fun i hi => ?_) (fun i hi => ?_) ?_ ?_ ?_ ?_ ?_ q.ba
  · simp (disch := omega) only [amU_at, amU_ne, amU_nj, amU_neR, up_ne, up_at, amSI_2]
    exact q.sets i hi
  · simp (disch := omega) only [amU_at, amU_ne, amU_nj, amU_neR, up_ne, up_at, amSI_2]
    exact q.ahead i hi
  · simp (disch := omega) only [amU_at, amU_ne, amU_nj, amU_neR, up_ne, up_at, amSI_2]
    rfl
  · simp (disch := omega) only [amU_at, amU_ne, amU_nj, amU_neR, up_ne, up_at, amSI_2]
    exact q.span
  · simp (disch := omega) only [amU_at, amU_ne, amU_nj, amU_neR, up_ne, up_at, amSI_2]
    exact q.bound
  · simp (disch := omega) only [amU_at, amU_ne, amU_nj, amU_neR, up_ne, up_at, amSI_2]
    exact q.rule
  · simp (disch := omega) only [amU_at, amU_ne, amU_nj, amU_neR, up_ne, up_at, amSI_2]
    exact q.draw
theorem HsIs.setD {m : Nat → Nat → Int32} {a : Nat} {S : HS} (q : HsIs m a S) {v : Nat} : HsIs (amU m a 7 (nI v)) a (S.setD v) := by
  refine HsIs.mk (q.ord.kept (by funext j; simp (disch := omega) only [amU_at, amU_ne, amU_nj, amU_neR, up_ne, up_at, amSI_2]) (by funext j; simp (disch := omega) only [amU_at, amU_ne, amU_nj, amU_neR, up_ne, up_at, amSI_2])) q.ls q.la (fun i hi => ?_) (fun i hi => ?_) ?_ ?_ ?_ ?_ ?_ q.ba
  · simp (disch := omega) only [amU_at, amU_ne, amU_nj, amU_neR, up_ne, up_at, amSI_2]
    exact q.sets i hi
  · simp (disch := omega) only [amU_at, amU_ne, amU_nj, amU_neR, up_ne, up_at, amSI_2]
    exact q.ahead i hi
  · simp (disch := omega) only [amU_at, amU_ne, amU_nj, amU_neR, up_ne, up_at, amSI_2]
    exact q.prior
  · simp (disch := omega) only [amU_at, amU_ne, amU_nj, amU_neR, up_ne, up_at, amSI_2]
    exact q.span
  · simp (disch := omega) only [amU_at, amU_ne, amU_nj, amU_neR, up_ne, up_at, amSI_2]
    exact q.bound
  · simp (disch := omega) only [amU_at, amU_ne, amU_nj, amU_neR, up_ne, up_at, amSI_2]
    exact q.rule
  · simp (disch := omega) only [amU_at, amU_ne, amU_nj, amU_neR, up_ne, up_at, amSI_2]
    rfl
theorem HsIs.flip {m : Nat → Nat → Int32} {a : Nat} {S : HS} (q : HsIs m a S) {k b : Nat} (hk : k < S.ord.length) (hb : b < 7) : HsIs (amU m (a + 2) k (nI (S.ahead.getD k 0 ^^^ 2 ^ b))) a (S.flip k b) := by
  refine HsIs.mk (q.ord.kept (by funext j; simp (disch := omega) only [amU_at, amU_ne, amU_nj, amU_neR, up_ne, up_at, amSI_2]) (by funext j; simp (disch := omega) only [amU_at, amU_ne, amU_nj, amU_neR, up_ne, up_at, amSI_2])) q.ls ?_ (fun i hi => ?_) (fun i hi => ?_) ?_ ?_ ?_ ?_ ?_ (fun x hx => ?_)
  · show (S.ahead.set k _).length = _
    rw [List.length_set]; exact q.la
  · simp (disch := omega) only [amU_at, amU_ne, amU_nj, amU_neR, up_ne, up_at, amSI_2]
    exact q.sets i hi
  · show _ = nI ((S.ahead.set k (S.ahead.getD k 0 ^^^ 2 ^ b)).getD i 0)
    rw [setl_getD (by rw [q.la]; exact hk)]
    by_cases e : i = k
    · subst e; rw [if_pos rfl]; simp (disch := omega) only [amU_at, amU_ne, amU_nj, amU_neR, up_ne, up_at, amSI_2]
    · rw [if_neg e]
      simp (disch := omega) only [amU_at, amU_ne, amU_nj, amU_neR, up_ne, up_at, amSI_2]
      exact q.ahead i hi
  · simp (disch := omega) only [amU_at, amU_ne, amU_nj, amU_neR, up_ne, up_at, amSI_2]
    exact q.prior
  · simp (disch := omega) only [amU_at, amU_ne, amU_nj, amU_neR, up_ne, up_at, amSI_2]
    exact q.span
  · simp (disch := omega) only [amU_at, amU_ne, amU_nj, amU_neR, up_ne, up_at, amSI_2]
    exact q.bound
  · simp (disch := omega) only [amU_at, amU_ne, amU_nj, amU_neR, up_ne, up_at, amSI_2]
    exact q.rule
  · simp (disch := omega) only [amU_at, amU_ne, amU_nj, amU_neR, up_ne, up_at, amSI_2]
    exact q.draw
  · rcases List.mem_or_eq_of_mem_set hx with z | z
    · exact q.ba x z
    · rw [z]
      exact Nat.xor_lt_two_pow (n := 7) (q.al hk) (p2_lt hb)
theorem hsFr.u {m : Nat → Nat → Int32} {b j : Nat} {x : Int32} (h1 : 25 ≤ b) (h2 : b < 30) : hsFr m (amU m b j x) 25 := fun i hi => amU_neR (by omega)
def wordsR (X : XS) (k x : Int32) : XS × Int32 := if ¬ (k.toNatClampNeg < X.1.ord.length ∧ k = nI k.toNatClampNeg) then (X, -1) else if ¬ (lN 1 ≤ x.toInt64 ∧ x.toInt64 ≤ lN 1048575) then (X, -1) else if nI (X.1.sets.getD k.toNatClampNeg 0) = x then (X, -2) else (actX X (X.1.setW k.toNatClampNeg x.toNatClampNeg), nI (X.1.sets.getD k.toNatClampNeg 0))
theorem isBk2 {x : Int32} {n : Nat} (hn : n ≤ 7) : (∃ j, j < n ∧ x = nI j) ↔ (x.toNatClampNeg < n ∧ x = nI x.toNatClampNeg) := by
  constructor
  · rintro ⟨j, h1, rfl⟩
    rw [amCl_nI (by omega)]
    exact ⟨h1, rfl⟩
  · rintro ⟨h1, h2⟩
    exact ⟨_, h1, h2⟩
def tX0_words : amT := fun as h K => match as with
  | [.ref a, .int k, .int x] => ∃ X : XS, a = (24 : Nat) ∧ RsW h X ∧ ∀ h', rsFr h h' → RsW h' (wordsR X k x).1 → K (some (.int (wordsR X k x).2)) h'
  | _ => False
/-! ReadingStages.words(II)I -/
def kX0_words : Nat → Bool := fun pc => pc == 41
def rX0_words : List (Nat × amS) := [(3, 2, 0, 0, (amRecv 0 tX0_isBook)), (11, 2, 0, 0, tX0_isSet), (20, 1, 0, 0, amTget 0 0), (23, 1, 0, 0, amTget 1 0), (38, 1, 0, 0, (amRecv 0 tX0_note)), (42, 1, 0, 0, amTget 0 0), (45, 1, 0, 0, amTget 1 0)]
def eX0_words (ret : Option Value → amH → Nat → Nat → Prop) (F : amX) : Nat → amX := amWp cX0_words kX0_words (amLk rX0_words) (some .int) 0 0 ret F
def sX0_words (ret : Option Value → amH → Nat → Nat → Prop) (F : amX) : Nat → amX := amWs cX0_words kX0_words (amLk rX0_words) (some .int) 0 0 ret F
theorem wX0_words_0 {ret F n h} {v0 v1 v2 v3 st} : eX0_words ret F (n + 1) 0 [v0, v1, v2, v3] (st) h 0 0 = (amIsR v0 ∧ eX0_words ret F n 1 [v0, v1, v2, v3] (v0 :: st) h 0 0) := (amWp_dec rfl dX0_words_0 rfl).trans rfl
theorem uX0_words_0 {ret F n h} {v0 v1 v2 v3 st} : sX0_words ret F n 0 [v0, v1, v2, v3] (st) h 0 0 = (amIsR v0 ∧ eX0_words ret F n 1 [v0, v1, v2, v3] (v0 :: st) h 0 0) := (amWs_dec dX0_words_0 rfl).trans rfl
theorem wX0_words_1 {ret F n h} {v0 v2 v3 st x} : eX0_words ret F (n + 1) 1 [v0, .int x, v2, v3] (st) h 0 0 = (eX0_words ret F n 2 [v0, .int x, v2, v3] (.int x :: st) h 0 0) := (amWp_dec rfl dX0_words_1 rfl).trans rfl
theorem wX0_words_2 {ret F n h} {v0 v1 v2 v3 st x} : eX0_words ret F (n + 1) 2 [v0, v1, v2, v3] (.int x :: st) h 0 0 = (eX0_words ret F n 3 [v0, v1, v2, v3] (.long x.toInt64 :: st) h 0 0) := (amWp_dec rfl dX0_words_2 rfl).trans rfl
theorem wX0_words_3 {ret F n h} {v0 v1 v2 v3 x1 x0} : eX0_words ret F (n + 1) 3 [v0, v1, v2, v3] (.long x1 :: .ref x0 :: []) h 0 0 = (h.1 x0 = (0, 0) ∧ tX0_isBook [.ref x0, .long x1] h (fun v h => eX0_words ret F n 6 [v0, v1, v2, v3] (v.toList ++ ([])) h 0 0)) := (amWp_dec rfl dX0_words_3 rfl).trans (amS4 (Nat.le_of_ble_eq_true rfl) (Nat.le_of_ble_eq_true rfl) (Nat.le_of_ble_eq_true rfl) (Nat.le_of_ble_eq_true rfl))
theorem wX0_words_6 {ret F n h} {v0 v1 v2 v3 st x} : eX0_words ret F (n + 1) 6 [v0, v1, v2, v3] (.int x :: st) h 0 0 = ((x = 0 → eX0_words ret F n 17 [v0, v1, v2, v3] (st) h 0 0) ∧ (¬ x = 0 → eX0_words ret F n 9 [v0, v1, v2, v3] (st) h 0 0)) := (amWp_dec rfl dX0_words_6 rfl).trans rfl
theorem wX0_words_9 {ret F n h} {v0 v1 v3 st x} : eX0_words ret F (n + 1) 9 [v0, v1, .int x, v3] (st) h 0 0 = (eX0_words ret F n 10 [v0, v1, .int x, v3] (.int x :: st) h 0 0) := (amWp_dec rfl dX0_words_9 rfl).trans rfl
theorem wX0_words_10 {ret F n h} {v0 v1 v2 v3 st} : eX0_words ret F (n + 1) 10 [v0, v1, v2, v3] (st) h 0 0 = (eX0_words ret F n 11 [v0, v1, v2, v3] (.int (nI 1) :: st) h 0 0) := (amWp_dec rfl dX0_words_10 rfl).trans rfl
theorem wX0_words_11 {ret F n h} {v0 v1 v2 v3 x1 x0} : eX0_words ret F (n + 1) 11 [v0, v1, v2, v3] (.int x1 :: .int x0 :: []) h 0 0 = (tX0_isSet [.int x0, .int x1] h (fun v h => eX0_words ret F n 14 [v0, v1, v2, v3] (v.toList ++ ([])) h 0 0)) := (amWp_dec rfl dX0_words_11 rfl).trans (amS4 (Nat.le_of_ble_eq_true rfl) (Nat.le_of_ble_eq_true rfl) (Nat.le_of_ble_eq_true rfl) (Nat.le_of_ble_eq_true rfl))
theorem wX0_words_14 {ret F n h} {v0 v1 v2 v3 st x} : eX0_words ret F (n + 1) 14 [v0, v1, v2, v3] (.int x :: st) h 0 0 = ((¬ x = 0 → eX0_words ret F n 19 [v0, v1, v2, v3] (st) h 0 0) ∧ (x = 0 → eX0_words ret F n 17 [v0, v1, v2, v3] (st) h 0 0)) := (amWp_dec rfl dX0_words_14 rfl).trans rfl
theorem wX0_words_17 {ret F n h} {v0 v1 v2 v3 st} : eX0_words ret F (n + 1) 17 [v0, v1, v2, v3] (st) h 0 0 = (eX0_words ret F n 18 [v0, v1, v2, v3] (.int (-1) :: st) h 0 0) := (amWp_dec rfl dX0_words_17 rfl).trans rfl
theorem wX0_words_18 {ret F n h} {v0 v1 v2 v3 x} : eX0_words ret F (n + 1) 18 [v0, v1, v2, v3] ([.int x]) h 0 0 = (ret (some (.int x)) h 0 0) := (amWp_dec rfl dX0_words_18 rfl).trans (amTrue ⟨_, rfl, rfl⟩)
theorem wX0_words_19 {ret F n h} {v0 v1 v2 v3 st} : eX0_words ret F (n + 1) 19 [v0, v1, v2, v3] (st) h 0 0 = (amIsR v0 ∧ eX0_words ret F n 20 [v0, v1, v2, v3] (v0 :: st) h 0 0) := (amWp_dec rfl dX0_words_19 rfl).trans rfl
theorem wX0_words_20 {ret F n h} {v0 v1 v2 v3 a} : eX0_words ret F (n + 1) 20 [v0, v1, v2, v3] (.ref a :: []) h 0 0 = (h.1 a = (0, 0) ∧ eX0_words ret F n 23 [v0, v1, v2, v3] (va_rf (h.2.2.2.1 a 0) :: []) h 0 0) := (amWp_dec rfl dX0_words_20 rfl).trans (amS4 (Nat.le_of_ble_eq_true rfl) (Nat.le_of_ble_eq_true rfl) (Nat.le_of_ble_eq_true rfl) (Nat.le_of_ble_eq_true rfl))
theorem wX0_words_23 {ret F n h} {v0 v1 v2 v3 a} : eX0_words ret F (n + 1) 23 [v0, v1, v2, v3] (.ref a :: []) h 0 0 = (h.1 a = (0, 1) ∧ eX0_words ret F n 26 [v0, v1, v2, v3] (va_rf (h.2.2.2.1 a 0) :: []) h 0 0) := (amWp_dec rfl dX0_words_23 rfl).trans (amS4 (Nat.le_of_ble_eq_true rfl) (Nat.le_of_ble_eq_true rfl) (Nat.le_of_ble_eq_true rfl) (Nat.le_of_ble_eq_true rfl))
theorem wX0_words_26 {ret F n h} {v0 v2 v3 st x} : eX0_words ret F (n + 1) 26 [v0, .int x, v2, v3] (st) h 0 0 = (eX0_words ret F n 27 [v0, .int x, v2, v3] (.int x :: st) h 0 0) := (amWp_dec rfl dX0_words_26 rfl).trans rfl
theorem wX0_words_27 {ret F n h} {v0 v1 v2 v3 st x a} : eX0_words ret F (n + 1) 27 [v0, v1, v2, v3] (.int x :: .ref a :: st) h 0 0 = ((h.1 a).1 = 1 ∧ vp_in x (h.1 a).2 ∧ eX0_words ret F n 28 [v0, v1, v2, v3] (.int (h.2.1 a x.toNatClampNeg) :: st) h 0 0) := (amWp_dec rfl dX0_words_27 rfl).trans rfl
theorem wX0_words_28 {ret F n h} {v0 v1 v2 v3 st x} : eX0_words ret F (n + 1) 28 [v0, v1, v2, v3] (.int x :: st) h 0 0 = (eX0_words ret F n 29 [v0, v1, amClr v2, .int x] (st) h 0 0) := (amWp_dec rfl dX0_words_28 rfl).trans (amTrue (Nat.le_of_ble_eq_true rfl))
theorem wX0_words_29 {ret F n h} {v0 v1 v2 st x} : eX0_words ret F (n + 1) 29 [v0, v1, v2, .int x] (st) h 0 0 = (eX0_words ret F n 30 [v0, v1, v2, .int x] (.int x :: st) h 0 0) := (amWp_dec rfl dX0_words_29 rfl).trans rfl
theorem wX0_words_30 {ret F n h} {v0 v1 v3 st x} : eX0_words ret F (n + 1) 30 [v0, v1, .int x, v3] (st) h 0 0 = (eX0_words ret F n 31 [v0, v1, .int x, v3] (.int x :: st) h 0 0) := (amWp_dec rfl dX0_words_30 rfl).trans rfl
theorem wX0_words_31 {ret F n h} {v0 v1 v2 v3 st y x} : eX0_words ret F (n + 1) 31 [v0, v1, v2, v3] (.int y :: .int x :: st) h 0 0 = ((¬ x = y → eX0_words ret F n 37 [v0, v1, v2, v3] (st) h 0 0) ∧ (x = y → eX0_words ret F n 34 [v0, v1, v2, v3] (st) h 0 0)) := (amWp_dec rfl dX0_words_31 rfl).trans rfl
theorem wX0_words_34 {ret F n h} {v0 v1 v2 v3 st} : eX0_words ret F (n + 1) 34 [v0, v1, v2, v3] (st) h 0 0 = (eX0_words ret F n 36 [v0, v1, v2, v3] (.int (-2) :: st) h 0 0) := (amWp_dec rfl dX0_words_34 rfl).trans rfl
theorem wX0_words_36 {ret F n h} {v0 v1 v2 v3 x} : eX0_words ret F (n + 1) 36 [v0, v1, v2, v3] ([.int x]) h 0 0 = (ret (some (.int x)) h 0 0) := (amWp_dec rfl dX0_words_36 rfl).trans (amTrue ⟨_, rfl, rfl⟩)
theorem wX0_words_37 {ret F n h} {v0 v1 v2 v3 st} : eX0_words ret F (n + 1) 37 [v0, v1, v2, v3] (st) h 0 0 = (amIsR v0 ∧ eX0_words ret F n 38 [v0, v1, v2, v3] (v0 :: st) h 0 0) := (amWp_dec rfl dX0_words_37 rfl).trans rfl
theorem wX0_words_38 {ret F n h} {v0 v1 v2 v3 x0} : eX0_words ret F (n + 1) 38 [v0, v1, v2, v3] (.ref x0 :: []) h 0 0 = (h.1 x0 = (0, 0) ∧ tX0_note [.ref x0] h (fun v h => eX0_words ret F n 41 [v0, v1, v2, v3] (v.toList ++ ([])) h 0 0)) := (amWp_dec rfl dX0_words_38 rfl).trans (amS4 (Nat.le_of_ble_eq_true rfl) (Nat.le_of_ble_eq_true rfl) (Nat.le_of_ble_eq_true rfl) (Nat.le_of_ble_eq_true rfl))
theorem wX0_words_41 {ret F n ls st h k z} : eX0_words ret F (n + 1) 41 ls st h k z = F 41 ls st h k z := amWp_cut rfl
theorem uX0_words_41 {ret F n h} {v0 v1 v2 v3 st} : sX0_words ret F n 41 [v0, v1, v2, v3] (st) h 0 0 = (amIsR v0 ∧ eX0_words ret F n 42 [v0, v1, v2, v3] (v0 :: st) h 0 0) := (amWs_dec dX0_words_41 rfl).trans rfl
theorem wX0_words_42 {ret F n h} {v0 v1 v2 v3 a} : eX0_words ret F (n + 1) 42 [v0, v1, v2, v3] (.ref a :: []) h 0 0 = (h.1 a = (0, 0) ∧ eX0_words ret F n 45 [v0, v1, v2, v3] (va_rf (h.2.2.2.1 a 0) :: []) h 0 0) := (amWp_dec rfl dX0_words_42 rfl).trans (amS4 (Nat.le_of_ble_eq_true rfl) (Nat.le_of_ble_eq_true rfl) (Nat.le_of_ble_eq_true rfl) (Nat.le_of_ble_eq_true rfl))
theorem wX0_words_45 {ret F n h} {v0 v1 v2 v3 a} : eX0_words ret F (n + 1) 45 [v0, v1, v2, v3] (.ref a :: []) h 0 0 = (h.1 a = (0, 1) ∧ eX0_words ret F n 48 [v0, v1, v2, v3] (va_rf (h.2.2.2.1 a 0) :: []) h 0 0) := (amWp_dec rfl dX0_words_45 rfl).trans (amS4 (Nat.le_of_ble_eq_true rfl) (Nat.le_of_ble_eq_true rfl) (Nat.le_of_ble_eq_true rfl) (Nat.le_of_ble_eq_true rfl))
theorem wX0_words_48 {ret F n h} {v0 v2 v3 st x} : eX0_words ret F (n + 1) 48 [v0, .int x, v2, v3] (st) h 0 0 = (eX0_words ret F n 49 [v0, .int x, v2, v3] (.int x :: st) h 0 0) := (amWp_dec rfl dX0_words_48 rfl).trans rfl
theorem wX0_words_49 {ret F n h} {v0 v1 v3 st x} : eX0_words ret F (n + 1) 49 [v0, v1, .int x, v3] (st) h 0 0 = (eX0_words ret F n 50 [v0, v1, .int x, v3] (.int x :: st) h 0 0) := (amWp_dec rfl dX0_words_49 rfl).trans rfl
theorem wX0_words_50 {ret F n h} {v0 v1 v2 v3 st y x a} : eX0_words ret F (n + 1) 50 [v0, v1, v2, v3] (.int y :: .int x :: .ref a :: st) h 0 0 = ((h.1 a).1 = 1 ∧ vp_in x (h.1 a).2 ∧ amN0 ≤ a ∧ eX0_words ret F n 51 [v0, v1, v2, v3] (st) (amSI h (amU h.2.1 a x.toNatClampNeg y)) 0 0) := (amWp_dec rfl dX0_words_50 rfl).trans rfl
theorem wX0_words_51 {ret F n h} {v0 v1 v2 st x} : eX0_words ret F (n + 1) 51 [v0, v1, v2, .int x] (st) h 0 0 = (eX0_words ret F n 52 [v0, v1, v2, .int x] (.int x :: st) h 0 0) := (amWp_dec rfl dX0_words_51 rfl).trans rfl
theorem wX0_words_52 {ret F n h} {v0 v1 v2 v3 x} : eX0_words ret F (n + 1) 52 [v0, v1, v2, v3] ([.int x]) h 0 0 = (ret (some (.int x)) h 0 0) := (amWp_dec rfl dX0_words_52 rfl).trans (amTrue ⟨_, rfl, rfl⟩)
theorem evX0_words (l : Launch) (G : amG) : ∀ pc S i sz, amLk rX0_words pc = some S → decode cX0_words pc = .ok (i, sz) → amSiteP pc G l yX0_words.cls yX0_words.name yX0_words.desc (amRm 4 0 0) i sz S.1 S.2.1 S.2.2.1 S.2.2.2 := amLk_ok (by
  refine List.forall_mem_cons.mpr ⟨⟨_, _, dX0_words_3, amSite.P (amSiteV (C := RX0) (metX0_isBook l G) rfl (by decide) (by decide) (lw_V q549 q551 qs20 q86 q552) ⟨_, rfl, rfl⟩ ⟨rfl, by decide +kernel, by decide +kernel, by decide +kernel⟩)⟩, ?_⟩
  refine List.forall_mem_cons.mpr ⟨⟨_, _, dX0_words_11, amSite.P (amSiteS (metX0_isSet l G) rfl (by decide) (by decide) (lw_S q877 q878 q86 q879) ⟨by decide +kernel, by decide +kernel, by decide +kernel⟩)⟩, ?_⟩
  refine List.forall_mem_cons.mpr ⟨⟨_, _, dX0_words_20, amSite.P (amSiteGet ⟨_, rfl, by decide, Or.inl q301⟩)⟩, ?_⟩
  refine List.forall_mem_cons.mpr ⟨⟨_, _, dX0_words_23, amSite.P (amSiteGet ⟨_, rfl, by decide, Or.inr ⟨"ReadingStages", List.mem_of_getElem? (i := 2) rfl⟩⟩)⟩, ?_⟩
  refine List.forall_mem_cons.mpr ⟨⟨_, _, dX0_words_38, amSite.P (amSiteV (C := RX0) (metX0_note l G) rfl (by decide) (by decide) (lw_V q881 q883 qs24 q86 q884) ⟨_, rfl, rfl⟩ ⟨rfl, by decide +kernel, by decide +kernel, by decide +kernel⟩)⟩, ?_⟩
  refine List.forall_mem_cons.mpr ⟨⟨_, _, dX0_words_42, amSite.P (amSiteGet ⟨_, rfl, by decide, Or.inl q301⟩)⟩, ?_⟩
  refine List.forall_mem_cons.mpr ⟨⟨_, _, dX0_words_45, amSite.P (amSiteGet ⟨_, rfl, by decide, Or.inr ⟨"ReadingStages", List.mem_of_getElem? (i := 2) rfl⟩⟩)⟩, ?_⟩
  exact fun _ h => absurd h List.not_mem_nil)
theorem goX0_words {ret F} (hF : amCld cX0_words kX0_words (amLk rX0_words) (some .int) 0 0 ret F) (n : Nat) {pc ls st h k z} (q : sX0_words ret F n pc ls st h k z) : F pc ls st h k z := hF.1 n pc ls st h k z q
theorem metX0_words (l : Launch) (G : amG) : amMet l G yX0_words (ws_ yX0_words cX0_words 4 (some .int)) 4 0 0 tX0_words := by
  refine amMet_of (cut := kX0_words) (by decide +kernel) (evX0_words l G) ?_
  intro as h K hT
  match as, hT with
  | [.ref a, .int k, .int x], ⟨X, e1, w, hK⟩ =>
  refine ⟨Nat.le_of_ble_eq_true rfl, fun F hF => ?_⟩
  show F 0 [.ref a, .int k, .int x, .retAddr 0] [] h 0 0
  obtain ⟨a, rfl⟩ : ∃ i : Nat, i = a := ⟨_, rfl⟩
  subst e1
  have hR := w.1.1
  have hS := w.1.2.1
  have hO := w.1.2.2.1
  have n7 := hS.n7
  have hm := hS.many
  have key := hK
  have bad : (wordsR X k x) = (X, -1) → amRet 0 0 K (some (.int (-1))) h 0 0 := fun e => by
    rw [e] at hK
    exact amRet.of (by decide) (by decide) (hK h (rsFr.rf h) w)
  by_cases qk : k.toNatClampNeg < X.1.ord.length ∧ k = nI k.toNatClampNeg
  · obtain ⟨j, hj, rfl⟩ := (isBk2 n7).mpr qk
    rw [wordsR, if_neg (fun z => z qk), amCl_nI (by omega)] at key
    have sj := hS.sets j hj
    have sb := hO.X.at j
    refine goX0_words hF 60 ?_
    simp (disch := omega) only [wX0_words_0, uX0_words_0, wX0_words_1, wX0_words_2, wX0_words_3, wX0_words_6, wX0_words_9, wX0_words_10, wX0_words_11, wX0_words_14, wX0_words_17, wX0_words_18, wX0_words_19, wX0_words_20, wX0_words_23, wX0_words_26, wX0_words_27, wX0_words_28, wX0_words_29, wX0_words_30, wX0_words_31, wX0_words_34, wX0_words_36, wX0_words_37, wX0_words_38, wX0_words_41, uX0_words_41, wX0_words_42, wX0_words_45, wX0_words_48, wX0_words_49, wX0_words_50, wX0_words_51, wX0_words_52, amSI_1, amSI_2, amSI_3, amSI_s, amU_at, amIsR_ref, amIsR_null, amIsR_rf, amRf_some, amRf_none, amClr_int, amClr_ref, amClr_null, amClr_long, amClr_ra, amClr_rf, amFit_int, amFit_oref, amFit_aref, amFit_onull, amFit_anull, amOptSome, amOptNone, List.cons_append, List.nil_append, true_and, and_true, true_implies, not_true_eq_false, not_false_eq_true, false_implies, and_self, Nat.add_zero, Nat.zero_add, ne_eq, Prod.mk.injEq, amC01_0, amC01_1, amC01_nb, amNb0, amNb1, amTcpI_d, Nat.reduceLeDiff, Nat.reduceAdd, Nat.reduceSub, Nat.reduceEqDiff, Nat.le_refl, amN0le, hR.s, hR.r, tX0_isBook_d, hm, isBk n7, hR, tX0_isSet_d, am1L, amVI, amCl_nI, sj]
    refine ⟨fun z => absurd ⟨j, hj, rfl⟩ z, fun _ => ⟨fun q => ⟨fun q2 => note_of w (fun h1 f1 hR1 _ hS1 hU1 => ?_), fun q2 => ?_⟩, fun q => ?_⟩⟩
    · obtain ⟨v, v1, v2, rfl⟩ := (amInL (by decide) (by decide)).mp (Classical.not_not.mp q)
      have q2' : ¬ nI (X.1.sets.getD j 0) = nI v := q2
      rw [if_neg q, if_neg q2', amCl_nI (by omega)] at key
      have hR := hR1
      obtain ⟨g1, g2⟩ := w.act f1 hU1 rfl (hsFr.u (by decide) (by decide)) (hS1.setW (v := v) hj) (hO.setW (k := j) (by omega) (by omega))
      have key := key _ g1 g2
      refine goX0_words hF 60 ?_
      simp (disch := omega) only [wX0_words_0, uX0_words_0, wX0_words_1, wX0_words_2, wX0_words_3, wX0_words_6, wX0_words_9, wX0_words_10, wX0_words_11, wX0_words_14, wX0_words_17, wX0_words_18, wX0_words_19, wX0_words_20, wX0_words_23, wX0_words_26, wX0_words_27, wX0_words_28, wX0_words_29, wX0_words_30, wX0_words_31, wX0_words_34, wX0_words_36, wX0_words_37, wX0_words_38, wX0_words_41, uX0_words_41, wX0_words_42, wX0_words_45, wX0_words_48, wX0_words_49, wX0_words_50, wX0_words_51, wX0_words_52, amSI_1, amSI_2, amSI_3, amSI_s, amU_at, amIsR_ref, amIsR_null, amIsR_rf, amRf_some, amRf_none, amClr_int, amClr_ref, amClr_null, amClr_long, amClr_ra, amClr_rf, amFit_int, amFit_oref, amFit_aref, amFit_onull, amFit_anull, amOptSome, amOptNone, List.cons_append, List.nil_append, true_and, and_true, true_implies, not_true_eq_false, not_false_eq_true, false_implies, and_self, Nat.add_zero, Nat.zero_add, ne_eq, Prod.mk.injEq, amC01_0, amC01_1, amC01_nb, amNb0, amNb1, amTcpI_d, Nat.reduceLeDiff, Nat.reduceAdd, Nat.reduceSub, Nat.reduceEqDiff, Nat.le_refl, amN0le, hR.s, hR.r, amVI, amCl_nI]
      exact amRet.of (by decide) (by decide) key
    · rw [if_neg q, if_pos q2] at key
      exact amRet.of (by decide) (by decide) (key h (rsFr.rf h) w)
    · exact bad (by rw [wordsR, if_neg (fun z => z qk), if_pos q])
  · have b := bad (by rw [wordsR, if_pos qk])
    have qk2 : ¬ ∃ j, j < X.1.ord.length ∧ k = nI j := fun z => qk ((isBk2 n7).mp z)
    refine goX0_words hF 60 ?_
    simp (disch := omega) only [wX0_words_0, uX0_words_0, wX0_words_1, wX0_words_2, wX0_words_3, wX0_words_6, wX0_words_9, wX0_words_10, wX0_words_11, wX0_words_14, wX0_words_17, wX0_words_18, wX0_words_19, wX0_words_20, wX0_words_23, wX0_words_26, wX0_words_27, wX0_words_28, wX0_words_29, wX0_words_30, wX0_words_31, wX0_words_34, wX0_words_36, wX0_words_37, wX0_words_38, wX0_words_41, uX0_words_41, wX0_words_42, wX0_words_45, wX0_words_48, wX0_words_49, wX0_words_50, wX0_words_51, wX0_words_52, amSI_1, amSI_2, amSI_3, amSI_s, amU_at, amIsR_ref, amIsR_null, amIsR_rf, amRf_some, amRf_none, amClr_int, amClr_ref, amClr_null, amClr_long, amClr_ra, amClr_rf, amFit_int, amFit_oref, amFit_aref, amFit_onull, amFit_anull, amOptSome, amOptNone, List.cons_append, List.nil_append, true_and, and_true, true_implies, not_true_eq_false, not_false_eq_true, false_implies, and_self, Nat.add_zero, Nat.zero_add, ne_eq, Prod.mk.injEq, amC01_0, amC01_1, amC01_nb, amNb0, amNb1, amTcpI_d, Nat.reduceLeDiff, Nat.reduceAdd, Nat.reduceSub, Nat.reduceEqDiff, Nat.le_refl, amN0le, hR.s, hR.r, tX0_isBook_d, hm, isBk n7, hR]
    exact ⟨fun _ => b, fun z => absurd qk2 z⟩
theorem tX0_words_d {a : Nat} {k x : Int32} {h : amH} {K : Option Value → amH → Prop} : tX0_words [.ref a, .int k, .int x] h K = ∃ X : XS, a = (24 : Nat) ∧ RsW h X ∧ ∀ h', rsFr h h' → RsW h' (wordsR X k x).1 → K (some (.int (wordsR X k x).2)) h' := rfl
def loseR (X : XS) (k : Int32) : XS × Int32 := if k.toNatClampNeg < X.1.ord.length ∧ k = nI k.toNatClampNeg then (actX X (X.1.lose k.toNatClampNeg), nI (X.1.ord.length - 1)) else (X, -1)
def tX0_lose : amT := fun as h K => match as with
  | [.ref a, .int k] => ∃ X : XS, a = (24 : Nat) ∧ RsW h X ∧ ∀ h', rsFr h h' → RsW h' (loseR X k).1 → K (some (.int (loseR X k).2)) h'
  | _ => False
/-! ReadingStages.lose(I)I -/
def kX0_lose : Nat → Bool := fun pc => pc == 15 || pc == 23
def rX0_lose : List (Nat × amS) := [(3, 2, 0, 0, (amRecv 0 tX0_isBook)), (12, 1, 0, 0, (amRecv 0 tX0_note)), (16, 1, 0, 0, amTget 0 0), (20, 2, 0, 0, (amRecv 1 tX1_lose)), (24, 1, 0, 0, amTget 0 0), (27, 1, 0, 0, (amRecv 1 tX1_many))]
def eX0_lose (ret : Option Value → amH → Nat → Nat → Prop) (F : amX) : Nat → amX := amWp cX0_lose kX0_lose (amLk rX0_lose) (some .int) 0 0 ret F
def sX0_lose (ret : Option Value → amH → Nat → Nat → Prop) (F : amX) : Nat → amX := amWs cX0_lose kX0_lose (amLk rX0_lose) (some .int) 0 0 ret F
theorem wX0_lose_0 {ret F n h} {v0 v1 st} : eX0_lose ret F (n + 1) 0 [v0, v1] (st) h 0 0 = (amIsR v0 ∧ eX0_lose ret F n 1 [v0, v1] (v0 :: st) h 0 0) := (amWp_dec rfl dX0_lose_0 rfl).trans rfl
theorem uX0_lose_0 {ret F n h} {v0 v1 st} : sX0_lose ret F n 0 [v0, v1] (st) h 0 0 = (amIsR v0 ∧ eX0_lose ret F n 1 [v0, v1] (v0 :: st) h 0 0) := (amWs_dec dX0_lose_0 rfl).trans rfl
theorem wX0_lose_1 {ret F n h} {v0 st x} : eX0_lose ret F (n + 1) 1 [v0, .int x] (st) h 0 0 = (eX0_lose ret F n 2 [v0, .int x] (.int x :: st) h 0 0) := (amWp_dec rfl dX0_lose_1 rfl).trans rfl
theorem wX0_lose_2 {ret F n h} {v0 v1 st x} : eX0_lose ret F (n + 1) 2 [v0, v1] (.int x :: st) h 0 0 = (eX0_lose ret F n 3 [v0, v1] (.long x.toInt64 :: st) h 0 0) := (amWp_dec rfl dX0_lose_2 rfl).trans rfl
theorem wX0_lose_3 {ret F n h} {v0 v1 x1 x0} : eX0_lose ret F (n + 1) 3 [v0, v1] (.long x1 :: .ref x0 :: []) h 0 0 = (h.1 x0 = (0, 0) ∧ tX0_isBook [.ref x0, .long x1] h (fun v h => eX0_lose ret F n 6 [v0, v1] (v.toList ++ ([])) h 0 0)) := (amWp_dec rfl dX0_lose_3 rfl).trans (amS4 (Nat.le_of_ble_eq_true rfl) (Nat.le_of_ble_eq_true rfl) (Nat.le_of_ble_eq_true rfl) (Nat.le_of_ble_eq_true rfl))
theorem wX0_lose_6 {ret F n h} {v0 v1 st x} : eX0_lose ret F (n + 1) 6 [v0, v1] (.int x :: st) h 0 0 = ((¬ x = 0 → eX0_lose ret F n 11 [v0, v1] (st) h 0 0) ∧ (x = 0 → eX0_lose ret F n 9 [v0, v1] (st) h 0 0)) := (amWp_dec rfl dX0_lose_6 rfl).trans rfl
theorem wX0_lose_9 {ret F n h} {v0 v1 st} : eX0_lose ret F (n + 1) 9 [v0, v1] (st) h 0 0 = (eX0_lose ret F n 10 [v0, v1] (.int (-1) :: st) h 0 0) := (amWp_dec rfl dX0_lose_9 rfl).trans rfl
theorem wX0_lose_10 {ret F n h} {v0 v1 x} : eX0_lose ret F (n + 1) 10 [v0, v1] ([.int x]) h 0 0 = (ret (some (.int x)) h 0 0) := (amWp_dec rfl dX0_lose_10 rfl).trans (amTrue ⟨_, rfl, rfl⟩)
theorem wX0_lose_11 {ret F n h} {v0 v1 st} : eX0_lose ret F (n + 1) 11 [v0, v1] (st) h 0 0 = (amIsR v0 ∧ eX0_lose ret F n 12 [v0, v1] (v0 :: st) h 0 0) := (amWp_dec rfl dX0_lose_11 rfl).trans rfl
theorem wX0_lose_12 {ret F n h} {v0 v1 x0} : eX0_lose ret F (n + 1) 12 [v0, v1] (.ref x0 :: []) h 0 0 = (h.1 x0 = (0, 0) ∧ tX0_note [.ref x0] h (fun v h => eX0_lose ret F n 15 [v0, v1] (v.toList ++ ([])) h 0 0)) := (amWp_dec rfl dX0_lose_12 rfl).trans (amS4 (Nat.le_of_ble_eq_true rfl) (Nat.le_of_ble_eq_true rfl) (Nat.le_of_ble_eq_true rfl) (Nat.le_of_ble_eq_true rfl))
theorem wX0_lose_15 {ret F n ls st h k z} : eX0_lose ret F (n + 1) 15 ls st h k z = F 15 ls st h k z := amWp_cut rfl
theorem uX0_lose_15 {ret F n h} {v0 v1 st} : sX0_lose ret F n 15 [v0, v1] (st) h 0 0 = (amIsR v0 ∧ eX0_lose ret F n 16 [v0, v1] (v0 :: st) h 0 0) := (amWs_dec dX0_lose_15 rfl).trans rfl
theorem wX0_lose_16 {ret F n h} {v0 v1 a} : eX0_lose ret F (n + 1) 16 [v0, v1] (.ref a :: []) h 0 0 = (h.1 a = (0, 0) ∧ eX0_lose ret F n 19 [v0, v1] (va_rf (h.2.2.2.1 a 0) :: []) h 0 0) := (amWp_dec rfl dX0_lose_16 rfl).trans (amS4 (Nat.le_of_ble_eq_true rfl) (Nat.le_of_ble_eq_true rfl) (Nat.le_of_ble_eq_true rfl) (Nat.le_of_ble_eq_true rfl))
theorem wX0_lose_19 {ret F n h} {v0 st x} : eX0_lose ret F (n + 1) 19 [v0, .int x] (st) h 0 0 = (eX0_lose ret F n 20 [v0, .int x] (.int x :: st) h 0 0) := (amWp_dec rfl dX0_lose_19 rfl).trans rfl
theorem wX0_lose_20 {ret F n h} {v0 v1 x1 x0} : eX0_lose ret F (n + 1) 20 [v0, v1] (.int x1 :: .ref x0 :: []) h 0 0 = (h.1 x0 = (0, 1) ∧ tX1_lose [.ref x0, .int x1] h (fun v h => eX0_lose ret F n 23 [v0, v1] (v.toList ++ ([])) h 0 0)) := (amWp_dec rfl dX0_lose_20 rfl).trans (amS4 (Nat.le_of_ble_eq_true rfl) (Nat.le_of_ble_eq_true rfl) (Nat.le_of_ble_eq_true rfl) (Nat.le_of_ble_eq_true rfl))
theorem wX0_lose_23 {ret F n ls st h k z} : eX0_lose ret F (n + 1) 23 ls st h k z = F 23 ls st h k z := amWp_cut rfl
theorem uX0_lose_23 {ret F n h} {v0 v1 st} : sX0_lose ret F n 23 [v0, v1] (st) h 0 0 = (amIsR v0 ∧ eX0_lose ret F n 24 [v0, v1] (v0 :: st) h 0 0) := (amWs_dec dX0_lose_23 rfl).trans rfl
theorem wX0_lose_24 {ret F n h} {v0 v1 a} : eX0_lose ret F (n + 1) 24 [v0, v1] (.ref a :: []) h 0 0 = (h.1 a = (0, 0) ∧ eX0_lose ret F n 27 [v0, v1] (va_rf (h.2.2.2.1 a 0) :: []) h 0 0) := (amWp_dec rfl dX0_lose_24 rfl).trans (amS4 (Nat.le_of_ble_eq_true rfl) (Nat.le_of_ble_eq_true rfl) (Nat.le_of_ble_eq_true rfl) (Nat.le_of_ble_eq_true rfl))
theorem wX0_lose_27 {ret F n h} {v0 v1 x0} : eX0_lose ret F (n + 1) 27 [v0, v1] (.ref x0 :: []) h 0 0 = (h.1 x0 = (0, 1) ∧ tX1_many [.ref x0] h (fun v h => eX0_lose ret F n 30 [v0, v1] (v.toList ++ ([])) h 0 0)) := (amWp_dec rfl dX0_lose_27 rfl).trans (amS4 (Nat.le_of_ble_eq_true rfl) (Nat.le_of_ble_eq_true rfl) (Nat.le_of_ble_eq_true rfl) (Nat.le_of_ble_eq_true rfl))
theorem wX0_lose_30 {ret F n h} {v0 v1 x} : eX0_lose ret F (n + 1) 30 [v0, v1] ([.int x]) h 0 0 = (ret (some (.int x)) h 0 0) := (amWp_dec rfl dX0_lose_30 rfl).trans (amTrue ⟨_, rfl, rfl⟩)
theorem evX0_lose (l : Launch) (G : amG) : ∀ pc S i sz, amLk rX0_lose pc = some S → decode cX0_lose pc = .ok (i, sz) → amSiteP pc G l yX0_lose.cls yX0_lose.name yX0_lose.desc (amRm 5 0 0) i sz S.1 S.2.1 S.2.2.1 S.2.2.2 := amLk_ok (by
  refine List.forall_mem_cons.mpr ⟨⟨_, _, dX0_lose_3, amSite.P (amSiteV (C := RX0) (metX0_isBook l G) rfl (by decide) (by decide) (lw_V q549 q551 qs20 q86 q552) ⟨_, rfl, rfl⟩ ⟨rfl, by decide +kernel, by decide +kernel, by decide +kernel⟩)⟩, ?_⟩
  refine List.forall_mem_cons.mpr ⟨⟨_, _, dX0_lose_12, amSite.P (amSiteV (C := RX0) (metX0_note l G) rfl (by decide) (by decide) (lw_V q881 q883 qs24 q86 q884) ⟨_, rfl, rfl⟩ ⟨rfl, by decide +kernel, by decide +kernel, by decide +kernel⟩)⟩, ?_⟩
  refine List.forall_mem_cons.mpr ⟨⟨_, _, dX0_lose_16, amSite.P (amSiteGet ⟨_, rfl, by decide, Or.inl q301⟩)⟩, ?_⟩
  refine List.forall_mem_cons.mpr ⟨⟨_, _, dX0_lose_20, amSite.P (amSiteV (C := RX1) (metX1_lose l G) rfl (by decide) (by decide) (lw_V q905 q906 q907 q87 q908) ⟨_, rfl, rfl⟩ ⟨rfl, by decide +kernel, by decide +kernel, by decide +kernel⟩)⟩, ?_⟩
  refine List.forall_mem_cons.mpr ⟨⟨_, _, dX0_lose_24, amSite.P (amSiteGet ⟨_, rfl, by decide, Or.inl q301⟩)⟩, ?_⟩
  refine List.forall_mem_cons.mpr ⟨⟨_, _, dX0_lose_27, amSite.P (amSiteV (C := RX1) (metX1_many l G) rfl (by decide) (by decide) (lw_V q478 q479 q480 q87 q481) ⟨_, rfl, rfl⟩ ⟨rfl, by decide +kernel, by decide +kernel, by decide +kernel⟩)⟩, ?_⟩
  exact fun _ h => absurd h List.not_mem_nil)
theorem goX0_lose {ret F} (hF : amCld cX0_lose kX0_lose (amLk rX0_lose) (some .int) 0 0 ret F) (n : Nat) {pc ls st h k z} (q : sX0_lose ret F n pc ls st h k z) : F pc ls st h k z := hF.1 n pc ls st h k z q
theorem metX0_lose (l : Launch) (G : amG) : amMet l G yX0_lose (ws_ yX0_lose cX0_lose 2 (some .int)) 5 0 0 tX0_lose := by
  refine amMet_of (cut := kX0_lose) (by decide +kernel) (evX0_lose l G) ?_
  intro as h K hT
  match as, hT with
  | [.ref a, .int k], ⟨X, e1, w, hK⟩ =>
  refine ⟨Nat.le_of_ble_eq_true rfl, fun F hF => ?_⟩
  show F 0 [.ref a, .int k] [] h 0 0
  obtain ⟨a, rfl⟩ : ∃ i : Nat, i = a := ⟨_, rfl⟩
  subst e1
  have hR := w.1.1
  have hS := w.1.2.1
  have hO := w.1.2.2.1
  have n7 := hS.n7
  have hm := hS.many
  have key := hK
  by_cases qk : k.toNatClampNeg < X.1.ord.length ∧ k = nI k.toNatClampNeg
  · obtain ⟨j, hj, rfl⟩ := (isBk2 n7).mpr qk
    rw [loseR, if_pos qk, amCl_nI (by omega)] at key
    refine goX0_lose hF 60 ?_
    simp (disch := omega) only [wX0_lose_0, uX0_lose_0, wX0_lose_1, wX0_lose_2, wX0_lose_3, wX0_lose_6, wX0_lose_9, wX0_lose_10, wX0_lose_11, wX0_lose_12, wX0_lose_15, uX0_lose_15, wX0_lose_16, wX0_lose_19, wX0_lose_20, wX0_lose_23, uX0_lose_23, wX0_lose_24, wX0_lose_27, wX0_lose_30, amSI_1, amSI_2, amSI_3, amSI_s, amU_at, amIsR_ref, amIsR_null, amIsR_rf, amRf_some, amRf_none, amClr_int, amClr_ref, amClr_null, amClr_long, amClr_ra, amClr_rf, amFit_int, amFit_oref, amFit_aref, amFit_onull, amFit_anull, amOptSome, amOptNone, List.cons_append, List.nil_append, true_and, and_true, true_implies, not_true_eq_false, not_false_eq_true, false_implies, and_self, Nat.add_zero, Nat.zero_add, ne_eq, Prod.mk.injEq, amC01_0, amC01_1, amC01_nb, amNb0, amNb1, amTcpI_d, Nat.reduceLeDiff, Nat.reduceAdd, Nat.reduceSub, Nat.reduceEqDiff, Nat.le_refl, amN0le, hR.s, hR.r, tX0_isBook_d, hm, isBk n7, hR]
    refine ⟨fun _ => note_of w (fun h1 f1 hR1 _ hS1 hU1 => ?_), fun z => absurd ⟨j, hj, rfl⟩ z⟩
    have hR := hR1
    refine goX0_lose hF 60 ?_
    simp (disch := omega) only [wX0_lose_0, uX0_lose_0, wX0_lose_1, wX0_lose_2, wX0_lose_3, wX0_lose_6, wX0_lose_9, wX0_lose_10, wX0_lose_11, wX0_lose_12, wX0_lose_15, uX0_lose_15, wX0_lose_16, wX0_lose_19, wX0_lose_20, wX0_lose_23, uX0_lose_23, wX0_lose_24, wX0_lose_27, wX0_lose_30, amSI_1, amSI_2, amSI_3, amSI_s, amU_at, amIsR_ref, amIsR_null, amIsR_rf, amRf_some, amRf_none, amClr_int, amClr_ref, amClr_null, amClr_long, amClr_ra, amClr_rf, amFit_int, amFit_oref, amFit_aref, amFit_onull, amFit_anull, amOptSome, amOptNone, List.cons_append, List.nil_append, true_and, and_true, true_implies, not_true_eq_false, not_false_eq_true, false_implies, and_self, Nat.add_zero, Nat.zero_add, ne_eq, Prod.mk.injEq, amC01_0, amC01_1, amC01_nb, amNb0, amNb1, amTcpI_d, Nat.reduceLeDiff, Nat.reduceAdd, Nat.reduceSub, Nat.reduceEqDiff, Nat.le_refl, amN0le, hR.s, hR.r, tX1_lose_d]
    refine ⟨X.1, j, rfl, hR1.now, hS1, hO.nd, hO.mem j hj, hj, fun m' p1 p2 => ?_⟩
    obtain ⟨g1, g2⟩ := w.act f1 hU1 rfl p2 p1 (hO.lose hj)
    have key := key _ g1 g2
    have mm := p1.many
    have el : (X.1.lose j).ord.length = X.1.ord.length - 1 := by
      show (lessL j (X.1.ord.eraseIdx (X.1.ord.idxOf j))).length = _
      rw [lessL_len, List.length_eraseIdx_of_lt (List.idxOf_lt_length_of_mem (hO.mem j hj))]
    rw [el] at mm
    refine goX0_lose hF 60 ?_
    simp (disch := omega) only [wX0_lose_0, uX0_lose_0, wX0_lose_1, wX0_lose_2, wX0_lose_3, wX0_lose_6, wX0_lose_9, wX0_lose_10, wX0_lose_11, wX0_lose_12, wX0_lose_15, uX0_lose_15, wX0_lose_16, wX0_lose_19, wX0_lose_20, wX0_lose_23, uX0_lose_23, wX0_lose_24, wX0_lose_27, wX0_lose_30, amSI_1, amSI_2, amSI_3, amSI_s, amU_at, amIsR_ref, amIsR_null, amIsR_rf, amRf_some, amRf_none, amClr_int, amClr_ref, amClr_null, amClr_long, amClr_ra, amClr_rf, amFit_int, amFit_oref, amFit_aref, amFit_onull, amFit_anull, amOptSome, amOptNone, List.cons_append, List.nil_append, true_and, and_true, true_implies, not_true_eq_false, not_false_eq_true, false_implies, and_self, Nat.add_zero, Nat.zero_add, ne_eq, Prod.mk.injEq, amC01_0, amC01_1, amC01_nb, amNb0, amNb1, amTcpI_d, Nat.reduceLeDiff, Nat.reduceAdd, Nat.reduceSub, Nat.reduceEqDiff, Nat.le_refl, amN0le, hR.s, hR.r, tX1_many_d, mm]
    exact amRet.of (by decide) (by decide) key
  · rw [loseR, if_neg qk] at key
    have qk2 : ¬ ∃ j, j < X.1.ord.length ∧ k = nI j := fun z => qk ((isBk2 n7).mp z)
    refine goX0_lose hF 60 ?_
    simp (disch := omega) only [wX0_lose_0, uX0_lose_0, wX0_lose_1, wX0_lose_2, wX0_lose_3, wX0_lose_6, wX0_lose_9, wX0_lose_10, wX0_lose_11, wX0_lose_12, wX0_lose_15, uX0_lose_15, wX0_lose_16, wX0_lose_19, wX0_lose_20, wX0_lose_23, uX0_lose_23, wX0_lose_24, wX0_lose_27, wX0_lose_30, amSI_1, amSI_2, amSI_3, amSI_s, amU_at, amIsR_ref, amIsR_null, amIsR_rf, amRf_some, amRf_none, amClr_int, amClr_ref, amClr_null, amClr_long, amClr_ra, amClr_rf, amFit_int, amFit_oref, amFit_aref, amFit_onull, amFit_anull, amOptSome, amOptNone, List.cons_append, List.nil_append, true_and, and_true, true_implies, not_true_eq_false, not_false_eq_true, false_implies, and_self, Nat.add_zero, Nat.zero_add, ne_eq, Prod.mk.injEq, amC01_0, amC01_1, amC01_nb, amNb0, amNb1, amTcpI_d, Nat.reduceLeDiff, Nat.reduceAdd, Nat.reduceSub, Nat.reduceEqDiff, Nat.le_refl, amN0le, hR.s, hR.r, tX0_isBook_d, hm, isBk n7, hR]
    exact ⟨fun z => absurd qk2 z, fun _ => amRet.of (by decide) (by decide) (key h (rsFr.rf h) w)⟩
theorem tX0_lose_d {a : Nat} {k : Int32} {h : amH} {K : Option Value → amH → Prop} : tX0_lose [.ref a, .int k] h K = ∃ X : XS, a = (24 : Nat) ∧ RsW h X ∧ ∀ h', rsFr h h' → RsW h' (loseR X k).1 → K (some (.int (loseR X k).2)) h' := rfl
def priorR (X : XS) (x : Int32) : XS × Int32 := if ¬ (lN 0 ≤ x.toInt64 ∧ x.toInt64 ≤ lN 1048575) then (X, -1) else if nI X.1.prior = x then (X, -2) else (actX X (X.1.setP x.toNatClampNeg), nI X.1.prior)
def tX0_prior : amT := fun as h K => match as with
  | [.ref a, .int x] => ∃ X : XS, a = (24 : Nat) ∧ RsW h X ∧ ∀ h', rsFr h h' → RsW h' (priorR X x).1 → K (some (.int (priorR X x).2)) h'
  | _ => False
/-! ReadingStages.prior(I)I -/
def kX0_prior : Nat → Bool := fun pc => pc == 30
def rX0_prior : List (Nat × amS) := [(2, 2, 0, 0, tX0_isSet), (11, 1, 0, 0, amTget 0 0), (14, 1, 0, 0, amTget 1 3), (27, 1, 0, 0, (amRecv 0 tX0_note)), (31, 1, 0, 0, amTget 0 0), (35, 2, 0, 0, amTput 1 3)]
def eX0_prior (ret : Option Value → amH → Nat → Nat → Prop) (F : amX) : Nat → amX := amWp cX0_prior kX0_prior (amLk rX0_prior) (some .int) 0 0 ret F
def sX0_prior (ret : Option Value → amH → Nat → Nat → Prop) (F : amX) : Nat → amX := amWs cX0_prior kX0_prior (amLk rX0_prior) (some .int) 0 0 ret F
theorem wX0_prior_0 {ret F n h} {v0 v2 st x} : eX0_prior ret F (n + 1) 0 [v0, .int x, v2] (st) h 0 0 = (eX0_prior ret F n 1 [v0, .int x, v2] (.int x :: st) h 0 0) := (amWp_dec rfl dX0_prior_0 rfl).trans rfl
theorem uX0_prior_0 {ret F n h} {v0 v2 st x} : sX0_prior ret F n 0 [v0, .int x, v2] (st) h 0 0 = (eX0_prior ret F n 1 [v0, .int x, v2] (.int x :: st) h 0 0) := (amWs_dec dX0_prior_0 rfl).trans rfl
theorem wX0_prior_1 {ret F n h} {v0 v1 v2 st} : eX0_prior ret F (n + 1) 1 [v0, v1, v2] (st) h 0 0 = (eX0_prior ret F n 2 [v0, v1, v2] (.int (nI 0) :: st) h 0 0) := (amWp_dec rfl dX0_prior_1 rfl).trans rfl
theorem wX0_prior_2 {ret F n h} {v0 v1 v2 x1 x0} : eX0_prior ret F (n + 1) 2 [v0, v1, v2] (.int x1 :: .int x0 :: []) h 0 0 = (tX0_isSet [.int x0, .int x1] h (fun v h => eX0_prior ret F n 5 [v0, v1, v2] (v.toList ++ ([])) h 0 0)) := (amWp_dec rfl dX0_prior_2 rfl).trans (amS4 (Nat.le_of_ble_eq_true rfl) (Nat.le_of_ble_eq_true rfl) (Nat.le_of_ble_eq_true rfl) (Nat.le_of_ble_eq_true rfl))
theorem wX0_prior_5 {ret F n h} {v0 v1 v2 st x} : eX0_prior ret F (n + 1) 5 [v0, v1, v2] (.int x :: st) h 0 0 = ((¬ x = 0 → eX0_prior ret F n 10 [v0, v1, v2] (st) h 0 0) ∧ (x = 0 → eX0_prior ret F n 8 [v0, v1, v2] (st) h 0 0)) := (amWp_dec rfl dX0_prior_5 rfl).trans rfl
theorem wX0_prior_8 {ret F n h} {v0 v1 v2 st} : eX0_prior ret F (n + 1) 8 [v0, v1, v2] (st) h 0 0 = (eX0_prior ret F n 9 [v0, v1, v2] (.int (-1) :: st) h 0 0) := (amWp_dec rfl dX0_prior_8 rfl).trans rfl
theorem wX0_prior_9 {ret F n h} {v0 v1 v2 x} : eX0_prior ret F (n + 1) 9 [v0, v1, v2] ([.int x]) h 0 0 = (ret (some (.int x)) h 0 0) := (amWp_dec rfl dX0_prior_9 rfl).trans (amTrue ⟨_, rfl, rfl⟩)
theorem wX0_prior_10 {ret F n h} {v0 v1 v2 st} : eX0_prior ret F (n + 1) 10 [v0, v1, v2] (st) h 0 0 = (amIsR v0 ∧ eX0_prior ret F n 11 [v0, v1, v2] (v0 :: st) h 0 0) := (amWp_dec rfl dX0_prior_10 rfl).trans rfl
theorem wX0_prior_11 {ret F n h} {v0 v1 v2 a} : eX0_prior ret F (n + 1) 11 [v0, v1, v2] (.ref a :: []) h 0 0 = (h.1 a = (0, 0) ∧ eX0_prior ret F n 14 [v0, v1, v2] (va_rf (h.2.2.2.1 a 0) :: []) h 0 0) := (amWp_dec rfl dX0_prior_11 rfl).trans (amS4 (Nat.le_of_ble_eq_true rfl) (Nat.le_of_ble_eq_true rfl) (Nat.le_of_ble_eq_true rfl) (Nat.le_of_ble_eq_true rfl))
theorem wX0_prior_14 {ret F n h} {v0 v1 v2 a} : eX0_prior ret F (n + 1) 14 [v0, v1, v2] (.ref a :: []) h 0 0 = (h.1 a = (0, 1) ∧ eX0_prior ret F n 17 [v0, v1, v2] (.int (h.2.1 a 3) :: []) h 0 0) := (amWp_dec rfl dX0_prior_14 rfl).trans (amS4 (Nat.le_of_ble_eq_true rfl) (Nat.le_of_ble_eq_true rfl) (Nat.le_of_ble_eq_true rfl) (Nat.le_of_ble_eq_true rfl))
theorem wX0_prior_17 {ret F n h} {v0 v1 v2 st x} : eX0_prior ret F (n + 1) 17 [v0, v1, v2] (.int x :: st) h 0 0 = (eX0_prior ret F n 18 [v0, amClr v1, .int x] (st) h 0 0) := (amWp_dec rfl dX0_prior_17 rfl).trans (amTrue (Nat.le_of_ble_eq_true rfl))
theorem wX0_prior_18 {ret F n h} {v0 v1 st x} : eX0_prior ret F (n + 1) 18 [v0, v1, .int x] (st) h 0 0 = (eX0_prior ret F n 19 [v0, v1, .int x] (.int x :: st) h 0 0) := (amWp_dec rfl dX0_prior_18 rfl).trans rfl
theorem wX0_prior_19 {ret F n h} {v0 v2 st x} : eX0_prior ret F (n + 1) 19 [v0, .int x, v2] (st) h 0 0 = (eX0_prior ret F n 20 [v0, .int x, v2] (.int x :: st) h 0 0) := (amWp_dec rfl dX0_prior_19 rfl).trans rfl
theorem wX0_prior_20 {ret F n h} {v0 v1 v2 st y x} : eX0_prior ret F (n + 1) 20 [v0, v1, v2] (.int y :: .int x :: st) h 0 0 = ((¬ x = y → eX0_prior ret F n 26 [v0, v1, v2] (st) h 0 0) ∧ (x = y → eX0_prior ret F n 23 [v0, v1, v2] (st) h 0 0)) := (amWp_dec rfl dX0_prior_20 rfl).trans rfl
theorem wX0_prior_23 {ret F n h} {v0 v1 v2 st} : eX0_prior ret F (n + 1) 23 [v0, v1, v2] (st) h 0 0 = (eX0_prior ret F n 25 [v0, v1, v2] (.int (-2) :: st) h 0 0) := (amWp_dec rfl dX0_prior_23 rfl).trans rfl
theorem wX0_prior_25 {ret F n h} {v0 v1 v2 x} : eX0_prior ret F (n + 1) 25 [v0, v1, v2] ([.int x]) h 0 0 = (ret (some (.int x)) h 0 0) := (amWp_dec rfl dX0_prior_25 rfl).trans (amTrue ⟨_, rfl, rfl⟩)
theorem wX0_prior_26 {ret F n h} {v0 v1 v2 st} : eX0_prior ret F (n + 1) 26 [v0, v1, v2] (st) h 0 0 = (amIsR v0 ∧ eX0_prior ret F n 27 [v0, v1, v2] (v0 :: st) h 0 0) := (amWp_dec rfl dX0_prior_26 rfl).trans rfl
theorem wX0_prior_27 {ret F n h} {v0 v1 v2 x0} : eX0_prior ret F (n + 1) 27 [v0, v1, v2] (.ref x0 :: []) h 0 0 = (h.1 x0 = (0, 0) ∧ tX0_note [.ref x0] h (fun v h => eX0_prior ret F n 30 [v0, v1, v2] (v.toList ++ ([])) h 0 0)) := (amWp_dec rfl dX0_prior_27 rfl).trans (amS4 (Nat.le_of_ble_eq_true rfl) (Nat.le_of_ble_eq_true rfl) (Nat.le_of_ble_eq_true rfl) (Nat.le_of_ble_eq_true rfl))
theorem wX0_prior_30 {ret F n ls st h k z} : eX0_prior ret F (n + 1) 30 ls st h k z = F 30 ls st h k z := amWp_cut rfl
theorem uX0_prior_30 {ret F n h} {v0 v1 v2 st} : sX0_prior ret F n 30 [v0, v1, v2] (st) h 0 0 = (amIsR v0 ∧ eX0_prior ret F n 31 [v0, v1, v2] (v0 :: st) h 0 0) := (amWs_dec dX0_prior_30 rfl).trans rfl
theorem wX0_prior_31 {ret F n h} {v0 v1 v2 a} : eX0_prior ret F (n + 1) 31 [v0, v1, v2] (.ref a :: []) h 0 0 = (h.1 a = (0, 0) ∧ eX0_prior ret F n 34 [v0, v1, v2] (va_rf (h.2.2.2.1 a 0) :: []) h 0 0) := (amWp_dec rfl dX0_prior_31 rfl).trans (amS4 (Nat.le_of_ble_eq_true rfl) (Nat.le_of_ble_eq_true rfl) (Nat.le_of_ble_eq_true rfl) (Nat.le_of_ble_eq_true rfl))
theorem wX0_prior_34 {ret F n h} {v0 v2 st x} : eX0_prior ret F (n + 1) 34 [v0, .int x, v2] (st) h 0 0 = (eX0_prior ret F n 35 [v0, .int x, v2] (.int x :: st) h 0 0) := (amWp_dec rfl dX0_prior_34 rfl).trans rfl
theorem wX0_prior_35 {ret F n h} {v0 v1 v2 x a} : eX0_prior ret F (n + 1) 35 [v0, v1, v2] (.int x :: .ref a :: []) h 0 0 = (h.1 a = (0, 1) ∧ amN0 ≤ a ∧ amFit .int (.int x) ∧ eX0_prior ret F n 38 [v0, v1, v2] ([]) (amSI h (amU h.2.1 a 3 x)) 0 0) := (amWp_dec rfl dX0_prior_35 rfl).trans (amS4 (Nat.le_of_ble_eq_true rfl) (Nat.le_of_ble_eq_true rfl) (Nat.le_of_ble_eq_true rfl) (Nat.le_of_ble_eq_true rfl))
theorem wX0_prior_38 {ret F n h} {v0 v1 st x} : eX0_prior ret F (n + 1) 38 [v0, v1, .int x] (st) h 0 0 = (eX0_prior ret F n 39 [v0, v1, .int x] (.int x :: st) h 0 0) := (amWp_dec rfl dX0_prior_38 rfl).trans rfl
theorem wX0_prior_39 {ret F n h} {v0 v1 v2 x} : eX0_prior ret F (n + 1) 39 [v0, v1, v2] ([.int x]) h 0 0 = (ret (some (.int x)) h 0 0) := (amWp_dec rfl dX0_prior_39 rfl).trans (amTrue ⟨_, rfl, rfl⟩)
theorem evX0_prior (l : Launch) (G : amG) : ∀ pc S i sz, amLk rX0_prior pc = some S → decode cX0_prior pc = .ok (i, sz) → amSiteP pc G l yX0_prior.cls yX0_prior.name yX0_prior.desc (amRm 4 0 0) i sz S.1 S.2.1 S.2.2.1 S.2.2.2 := amLk_ok (by
  refine List.forall_mem_cons.mpr ⟨⟨_, _, dX0_prior_2, amSite.P (amSiteS (metX0_isSet l G) rfl (by decide) (by decide) (lw_S q877 q878 q86 q879) ⟨by decide +kernel, by decide +kernel, by decide +kernel⟩)⟩, ?_⟩
  refine List.forall_mem_cons.mpr ⟨⟨_, _, dX0_prior_11, amSite.P (amSiteGet ⟨_, rfl, by decide, Or.inl q301⟩)⟩, ?_⟩
  refine List.forall_mem_cons.mpr ⟨⟨_, _, dX0_prior_14, amSite.P (amSiteGet ⟨_, rfl, by decide, Or.inr ⟨"ReadingStages", List.mem_of_getElem? (i := 5) rfl⟩⟩)⟩, ?_⟩
  refine List.forall_mem_cons.mpr ⟨⟨_, _, dX0_prior_27, amSite.P (amSiteV (C := RX0) (metX0_note l G) rfl (by decide) (by decide) (lw_V q881 q883 qs24 q86 q884) ⟨_, rfl, rfl⟩ ⟨rfl, by decide +kernel, by decide +kernel, by decide +kernel⟩)⟩, ?_⟩
  refine List.forall_mem_cons.mpr ⟨⟨_, _, dX0_prior_31, amSite.P (amSiteGet ⟨_, rfl, by decide, Or.inl q301⟩)⟩, ?_⟩
  refine List.forall_mem_cons.mpr ⟨⟨_, _, dX0_prior_35, amSite.P (amSitePut ⟨_, rfl, by decide, Or.inr ⟨"ReadingStages", List.mem_of_getElem? (i := 5) rfl⟩⟩ (fun q h => by cases h; rfl))⟩, ?_⟩
  exact fun _ h => absurd h List.not_mem_nil)
theorem goX0_prior {ret F} (hF : amCld cX0_prior kX0_prior (amLk rX0_prior) (some .int) 0 0 ret F) (n : Nat) {pc ls st h k z} (q : sX0_prior ret F n pc ls st h k z) : F pc ls st h k z := hF.1 n pc ls st h k z q
theorem metX0_prior (l : Launch) (G : amG) : amMet l G yX0_prior (ws_ yX0_prior cX0_prior 3 (some .int)) 4 0 0 tX0_prior := by
  refine amMet_of (cut := kX0_prior) (by decide +kernel) (evX0_prior l G) ?_
  intro as h K hT
  match as, hT with
  | [.ref a, .int x], ⟨X, e1, w, hK⟩ =>
  refine ⟨Nat.le_of_ble_eq_true rfl, fun F hF => ?_⟩
  show F 0 [.ref a, .int x, .retAddr 0] [] h 0 0
  obtain ⟨a, rfl⟩ : ∃ i : Nat, i = a := ⟨_, rfl⟩
  subst e1
  have hR := w.1.1
  have hS := w.1.2.1
  have hO := w.1.2.2.1
  have key := hK
  have pr := hS.prior
  refine goX0_prior hF 60 ?_
  simp (disch := omega) only [wX0_prior_0, uX0_prior_0, wX0_prior_1, wX0_prior_2, wX0_prior_5, wX0_prior_8, wX0_prior_9, wX0_prior_10, wX0_prior_11, wX0_prior_14, wX0_prior_17, wX0_prior_18, wX0_prior_19, wX0_prior_20, wX0_prior_23, wX0_prior_25, wX0_prior_26, wX0_prior_27, wX0_prior_30, uX0_prior_30, wX0_prior_31, wX0_prior_34, wX0_prior_35, wX0_prior_38, wX0_prior_39, amSI_1, amSI_2, amSI_3, amSI_s, amU_at, amIsR_ref, amIsR_null, amIsR_rf, amRf_some, amRf_none, amClr_int, amClr_ref, amClr_null, amClr_long, amClr_ra, amClr_rf, amFit_int, amFit_oref, amFit_aref, amFit_onull, amFit_anull, amOptSome, amOptNone, List.cons_append, List.nil_append, true_and, and_true, true_implies, not_true_eq_false, not_false_eq_true, false_implies, and_self, Nat.add_zero, Nat.zero_add, ne_eq, Prod.mk.injEq, amC01_0, amC01_1, amC01_nb, amNb0, amNb1, amTcpI_d, Nat.reduceLeDiff, Nat.reduceAdd, Nat.reduceSub, Nat.reduceEqDiff, Nat.le_refl, amN0le, hR.s, hR.r, tX0_isSet_d, am0L, pr]
  refine ⟨fun q => ⟨fun q2 => note_of w (fun h1 f1 hR1 _ hS1 hU1 => ?_), fun q2 => ?_⟩, fun q => ?_⟩
  · obtain ⟨v, v1, v2, rfl⟩ := (amInL (by decide) (by decide)).mp (Classical.not_not.mp q)
    rw [priorR, if_neg q, if_neg q2, amCl_nI (by omega)] at key
    have hR := hR1
    obtain ⟨g1, g2⟩ := w.act f1 hU1 rfl (hsFr.u (by decide) (by decide)) (hS1.setP (v := v)) (hO.setP (v := v) (by omega))
    have key := key _ g1 g2
    refine goX0_prior hF 60 ?_
    simp (disch := omega) only [wX0_prior_0, uX0_prior_0, wX0_prior_1, wX0_prior_2, wX0_prior_5, wX0_prior_8, wX0_prior_9, wX0_prior_10, wX0_prior_11, wX0_prior_14, wX0_prior_17, wX0_prior_18, wX0_prior_19, wX0_prior_20, wX0_prior_23, wX0_prior_25, wX0_prior_26, wX0_prior_27, wX0_prior_30, uX0_prior_30, wX0_prior_31, wX0_prior_34, wX0_prior_35, wX0_prior_38, wX0_prior_39, amSI_1, amSI_2, amSI_3, amSI_s, amU_at, amIsR_ref, amIsR_null, amIsR_rf, amRf_some, amRf_none, amClr_int, amClr_ref, amClr_null, amClr_long, amClr_ra, amClr_rf, amFit_int, amFit_oref, amFit_aref, amFit_onull, amFit_anull, amOptSome, amOptNone, List.cons_append, List.nil_append, true_and, and_true, true_implies, not_true_eq_false, not_false_eq_true, false_implies, and_self, Nat.add_zero, Nat.zero_add, ne_eq, Prod.mk.injEq, amC01_0, amC01_1, amC01_nb, amNb0, amNb1, amTcpI_d, Nat.reduceLeDiff, Nat.reduceAdd, Nat.reduceSub, Nat.reduceEqDiff, Nat.le_refl, amN0le, hR.s, hR.r]
    exact amRet.of (by decide) (by decide) key
  · rw [priorR, if_neg q, if_pos q2] at key
    exact amRet.of (by decide) (by decide) (key h (rsFr.rf h) w)
  · rw [priorR, if_pos q] at key
    exact amRet.of (by decide) (by decide) (key h (rsFr.rf h) w)
theorem tX0_prior_d {a : Nat} {x : Int32} {h : amH} {K : Option Value → amH → Prop} : tX0_prior [.ref a, .int x] h K = ∃ X : XS, a = (24 : Nat) ∧ RsW h X ∧ ∀ h', rsFr h h' → RsW h' (priorR X x).1 → K (some (.int (priorR X x).2)) h' := rfl
