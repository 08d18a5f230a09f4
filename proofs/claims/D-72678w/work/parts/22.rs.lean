/-! the system: shapes, words that last, what is read -/
set_option maxRecDepth 100000
/-- the shapes of the system's cells -/
def rsSh (h : amH) : Prop := h.1 24 = (0, 0) ∧ h.1 25 = (0, 1) ∧ h.1 26 = (1, 7) ∧ h.1 27 = (2, 7) ∧ h.1 28 = (0, 2) ∧ h.1 29 = (2, 7) ∧ h.1 30 = (6, 3) ∧ h.1 31 = (2, 20) ∧ h.1 32 = (2, 20) ∧ h.1 33 = (1, 7) ∧ h.1 34 = (1, 7) ∧ h.1 35 = (1, 7) ∧ h.1 36 = (1, 7) ∧ h.1 37 = (0, 2) ∧ h.1 38 = (2, 7) ∧ h.1 39 = (0, 2) ∧ h.1 40 = (2, 7) ∧ h.1 41 = (7, 6) ∧ h.1 42 = (0, 3) ∧ h.1 43 = (0, 4) ∧ h.1 44 = (3, 90) ∧ h.1 45 = (0, 1) ∧ h.1 46 = (1, 7) ∧ h.1 47 = (2, 7) ∧ h.1 48 = (0, 2) ∧ h.1 49 = (2, 7) ∧ h.1 50 = (0, 1) ∧ h.1 51 = (1, 7) ∧ h.1 52 = (2, 7) ∧ h.1 53 = (0, 2) ∧ h.1 54 = (2, 7) ∧ h.1 55 = (7, 6) ∧ h.1 56 = (8, 4) ∧ h.1 57 = (0, 5) ∧ h.1 58 = (0, 5) ∧ h.1 59 = (0, 5) ∧ h.1 60 = (0, 5) ∧ h.1 121 = (20, 1) ∧ h.1 122 = (21, 1) ∧ h.1 123 = (22, 1)
/-- its references that never change -/
def rsRf (h : amH) : Prop := h.2.2.2.1 24 0 = some 25 ∧ h.2.2.2.1 24 1 = some 30 ∧ h.2.2.2.1 24 2 = some 31 ∧ h.2.2.2.1 24 3 = some 32 ∧ h.2.2.2.1 24 4 = some 33 ∧ h.2.2.2.1 24 5 = some 34 ∧ h.2.2.2.1 24 6 = some 35 ∧ h.2.2.2.1 24 7 = some 36 ∧ h.2.2.2.1 24 8 = some 37 ∧ h.2.2.2.1 24 9 = some 39 ∧ h.2.2.2.1 24 14 = some 41 ∧ h.2.2.2.1 24 16 = some 42 ∧ h.2.2.2.1 24 17 = some 43 ∧ h.2.2.2.1 24 19 = some 45 ∧ h.2.2.2.1 24 20 = some 50 ∧ h.2.2.2.1 24 21 = some 55 ∧ h.2.2.2.1 24 24 = some 56 ∧ h.2.2.2.1 25 0 = some 26 ∧ h.2.2.2.1 25 1 = some 27 ∧ h.2.2.2.1 25 2 = some 28 ∧ h.2.2.2.1 28 0 = some 29 ∧ h.2.2.2.1 30 0 = some 121 ∧ h.2.2.2.1 30 1 = some 122 ∧ h.2.2.2.1 30 2 = some 123 ∧ h.2.2.2.1 37 0 = some 38 ∧ h.2.2.2.1 39 0 = some 40 ∧ h.2.2.2.1 43 0 = some 44 ∧ h.2.2.2.1 45 0 = some 46 ∧ h.2.2.2.1 45 1 = some 47 ∧ h.2.2.2.1 45 2 = some 48 ∧ h.2.2.2.1 48 0 = some 49 ∧ h.2.2.2.1 50 0 = some 51 ∧ h.2.2.2.1 50 1 = some 52 ∧ h.2.2.2.1 50 2 = some 53 ∧ h.2.2.2.1 53 0 = some 54 ∧ h.2.2.2.1 56 0 = some 57 ∧ h.2.2.2.1 56 1 = some 58 ∧ h.2.2.2.1 56 2 = some 59 ∧ h.2.2.2.1 56 3 = some 60 ∧ h.2.2.2.1 121 0 = some 24 ∧ h.2.2.2.1 122 0 = some 24 ∧ h.2.2.2.1 123 0 = some 24
def rsAt (h : amH) : Prop := rsSh h ∧ rsRf h
theorem rsAt.s {h : amH} (q : rsAt h) : h.1 24 = (0, 0) ∧ h.1 25 = (0, 1) ∧ h.1 26 = (1, 7) ∧ h.1 27 = (2, 7) ∧ h.1 28 = (0, 2) ∧ h.1 29 = (2, 7) ∧ h.1 30 = (6, 3) ∧ h.1 31 = (2, 20) ∧ h.1 32 = (2, 20) ∧ h.1 33 = (1, 7) ∧ h.1 34 = (1, 7) ∧ h.1 35 = (1, 7) ∧ h.1 36 = (1, 7) ∧ h.1 37 = (0, 2) ∧ h.1 38 = (2, 7) ∧ h.1 39 = (0, 2) ∧ h.1 40 = (2, 7) ∧ h.1 41 = (7, 6) ∧ h.1 42 = (0, 3) ∧ h.1 43 = (0, 4) ∧ h.1 44 = (3, 90) ∧ h.1 45 = (0, 1) ∧ h.1 46 = (1, 7) ∧ h.1 47 = (2, 7) ∧ h.1 48 = (0, 2) ∧ h.1 49 = (2, 7) ∧ h.1 50 = (0, 1) ∧ h.1 51 = (1, 7) ∧ h.1 52 = (2, 7) ∧ h.1 53 = (0, 2) ∧ h.1 54 = (2, 7) ∧ h.1 55 = (7, 6) ∧ h.1 56 = (8, 4) ∧ h.1 57 = (0, 5) ∧ h.1 58 = (0, 5) ∧ h.1 59 = (0, 5) ∧ h.1 60 = (0, 5) ∧ h.1 121 = (20, 1) ∧ h.1 122 = (21, 1) ∧ h.1 123 = (22, 1) := q.1
theorem rsAt.r {h : amH} (q : rsAt h) : h.2.2.2.1 24 0 = some 25 ∧ h.2.2.2.1 24 1 = some 30 ∧ h.2.2.2.1 24 2 = some 31 ∧ h.2.2.2.1 24 3 = some 32 ∧ h.2.2.2.1 24 4 = some 33 ∧ h.2.2.2.1 24 5 = some 34 ∧ h.2.2.2.1 24 6 = some 35 ∧ h.2.2.2.1 24 7 = some 36 ∧ h.2.2.2.1 24 8 = some 37 ∧ h.2.2.2.1 24 9 = some 39 ∧ h.2.2.2.1 24 14 = some 41 ∧ h.2.2.2.1 24 16 = some 42 ∧ h.2.2.2.1 24 17 = some 43 ∧ h.2.2.2.1 24 19 = some 45 ∧ h.2.2.2.1 24 20 = some 50 ∧ h.2.2.2.1 24 21 = some 55 ∧ h.2.2.2.1 24 24 = some 56 ∧ h.2.2.2.1 25 0 = some 26 ∧ h.2.2.2.1 25 1 = some 27 ∧ h.2.2.2.1 25 2 = some 28 ∧ h.2.2.2.1 28 0 = some 29 ∧ h.2.2.2.1 30 0 = some 121 ∧ h.2.2.2.1 30 1 = some 122 ∧ h.2.2.2.1 30 2 = some 123 ∧ h.2.2.2.1 37 0 = some 38 ∧ h.2.2.2.1 39 0 = some 40 ∧ h.2.2.2.1 43 0 = some 44 ∧ h.2.2.2.1 45 0 = some 46 ∧ h.2.2.2.1 45 1 = some 47 ∧ h.2.2.2.1 45 2 = some 48 ∧ h.2.2.2.1 48 0 = some 49 ∧ h.2.2.2.1 50 0 = some 51 ∧ h.2.2.2.1 50 1 = some 52 ∧ h.2.2.2.1 50 2 = some 53 ∧ h.2.2.2.1 53 0 = some 54 ∧ h.2.2.2.1 56 0 = some 57 ∧ h.2.2.2.1 56 1 = some 58 ∧ h.2.2.2.1 56 2 = some 59 ∧ h.2.2.2.1 56 3 = some 60 ∧ h.2.2.2.1 121 0 = some 24 ∧ h.2.2.2.1 122 0 = some 24 ∧ h.2.2.2.1 123 0 = some 24 := q.2
theorem rsAt.now {h : amH} (q : rsAt h) : hsAt h 25 := by
  have s := q.s
  have r := q.r
  simp only [hsAt, bdAt, s, r, and_self, Nat.reduceAdd]
theorem rsAt.got {h : amH} (q : rsAt h) : hsAt h 45 := by
  have s := q.s
  have r := q.r
  simp only [hsAt, bdAt, s, r, and_self, Nat.reduceAdd]
theorem rsAt.keptH {h : amH} (q : rsAt h) : hsAt h 50 := by
  have s := q.s
  have r := q.r
  simp only [hsAt, bdAt, s, r, and_self, Nat.reduceAdd]
theorem rsAt.mind {h : amH} (q : rsAt h) : bdAt h 37 := by
  have s := q.s
  have r := q.r
  simp only [bdAt, s, r, and_self, Nat.reduceAdd]
theorem rsAt.best {h : amH} (q : rsAt h) : bdAt h 39 := by
  have s := q.s
  have r := q.r
  simp only [bdAt, s, r, and_self, Nat.reduceAdd]
theorem rsAt.mv {h h2 : amH} (q : rsAt h) (e1 : ∀ i : Nat, i < 124 → h2.1 i = h.1 i) (e2 : ∀ i : Nat, i < 124 → i ≠ 41 → i ≠ 55 → (i < 57 ∨ 61 ≤ i) → h2.2.2.2.1 i = h.2.2.2.1 i) : rsAt h2 := by
  have s := q.s
  have r := q.r
  refine ⟨?_, ?_⟩
  · unfold rsSh
    simp (disch := omega) only [e1, s, and_self]
  · unfold rsRf
    simp (disch := omega) only [e2, r, and_self]
theorem rsAt.si {h : amH} {m : Nat → Nat → Int32} (q : rsAt h) : rsAt (amSI h m) := q
theorem am24 : (amN0 ≤ 24) = True := eq_true (by decide)
def tX0_lambda_new_0 : amT := fun as h K => match as with
  | [.ref a, .int x] => a = (24 : Nat) ∧ rsAt h ∧ K (some (.int (h.2.1 25 4))) h
  | _ => False
/-! ReadingStages.lambda$new$0(I)I -/
def kX0_lambda_new_0 : Nat → Bool := fun pc => false
def rX0_lambda_new_0 : List (Nat × amS) := [(1, 1, 0, 0, amTget 0 0), (4, 1, 0, 0, amTget 1 4)]
def eX0_lambda_new_0 (ret : Option Value → amH → Nat → Nat → Prop) (F : amX) : Nat → amX := amWp cX0_lambda_new_0 kX0_lambda_new_0 (amLk rX0_lambda_new_0) (some .int) 0 0 ret F
def sX0_lambda_new_0 (ret : Option Value → amH → Nat → Nat → Prop) (F : amX) : Nat → amX := amWs cX0_lambda_new_0 kX0_lambda_new_0 (amLk rX0_lambda_new_0) (some .int) 0 0 ret F
theorem wX0_lambda_new_0_0 {ret F n h} {v0 v1 st} : eX0_lambda_new_0 ret F (n + 1) 0 [v0, v1] (st) h 0 0 = (amIsR v0 ∧ eX0_lambda_new_0 ret F n 1 [v0, v1] (v0 :: st) h 0 0) := (amWp_dec rfl dX0_lambda_new_0_0 rfl).trans rfl
theorem uX0_lambda_new_0_0 {ret F n h} {v0 v1 st} : sX0_lambda_new_0 ret F n 0 [v0, v1] (st) h 0 0 = (amIsR v0 ∧ eX0_lambda_new_0 ret F n 1 [v0, v1] (v0 :: st) h 0 0) := (amWs_dec dX0_lambda_new_0_0 rfl).trans rfl
theorem wX0_lambda_new_0_1 {ret F n h} {v0 v1 a} : eX0_lambda_new_0 ret F (n + 1) 1 [v0, v1] (.ref a :: []) h 0 0 = (h.1 a = (0, 0) ∧ eX0_lambda_new_0 ret F n 4 [v0, v1] (va_rf (h.2.2.2.1 a 0) :: []) h 0 0) := (amWp_dec rfl dX0_lambda_new_0_1 rfl).trans (amS4 (Nat.le_of_ble_eq_true rfl) (Nat.le_of_ble_eq_true rfl) (Nat.le_of_ble_eq_true rfl) (Nat.le_of_ble_eq_true rfl))
theorem wX0_lambda_new_0_4 {ret F n h} {v0 v1 a} : eX0_lambda_new_0 ret F (n + 1) 4 [v0, v1] (.ref a :: []) h 0 0 = (h.1 a = (0, 1) ∧ eX0_lambda_new_0 ret F n 7 [v0, v1] (.int (h.2.1 a 4) :: []) h 0 0) := (amWp_dec rfl dX0_lambda_new_0_4 rfl).trans (amS4 (Nat.le_of_ble_eq_true rfl) (Nat.le_of_ble_eq_true rfl) (Nat.le_of_ble_eq_true rfl) (Nat.le_of_ble_eq_true rfl))
theorem wX0_lambda_new_0_7 {ret F n h} {v0 v1 x} : eX0_lambda_new_0 ret F (n + 1) 7 [v0, v1] ([.int x]) h 0 0 = (ret (some (.int x)) h 0 0) := (amWp_dec rfl dX0_lambda_new_0_7 rfl).trans (amTrue ⟨_, rfl, rfl⟩)
theorem evX0_lambda_new_0 (l : Launch) (G : amG) : ∀ pc S i sz, amLk rX0_lambda_new_0 pc = some S → decode cX0_lambda_new_0 pc = .ok (i, sz) → amSiteP pc G l yX0_lambda_new_0.cls yX0_lambda_new_0.name yX0_lambda_new_0.desc (amRm 1 0 0) i sz S.1 S.2.1 S.2.2.1 S.2.2.2 := amLk_ok (by
  refine List.forall_mem_cons.mpr ⟨⟨_, _, dX0_lambda_new_0_1, amSite.P (amSiteGet ⟨_, rfl, by decide, Or.inl q301⟩)⟩, ?_⟩
  refine List.forall_mem_cons.mpr ⟨⟨_, _, dX0_lambda_new_0_4, amSite.P (amSiteGet ⟨_, rfl, by decide, Or.inr ⟨"ReadingStages", List.mem_of_getElem? (i := 6) rfl⟩⟩)⟩, ?_⟩
  exact fun _ h => absurd h List.not_mem_nil)
theorem goX0_lambda_new_0 {ret F} (hF : amCld cX0_lambda_new_0 kX0_lambda_new_0 (amLk rX0_lambda_new_0) (some .int) 0 0 ret F) (n : Nat) {pc ls st h k z} (q : sX0_lambda_new_0 ret F n pc ls st h k z) : F pc ls st h k z := hF.1 n pc ls st h k z q
theorem metX0_lambda_new_0 (l : Launch) (G : amG) : amMet l G yX0_lambda_new_0 (ws_ yX0_lambda_new_0 cX0_lambda_new_0 2 (some .int)) 1 0 0 tX0_lambda_new_0 := by
  refine amMet_of (cut := kX0_lambda_new_0) (by decide +kernel) (evX0_lambda_new_0 l G) ?_
  intro as h K hT
  match as, hT with
  | [.ref a, .int x], ⟨e, hR, hK⟩ =>
  refine ⟨Nat.le_of_ble_eq_true rfl, fun F hF => ?_⟩
  show F 0 [.ref a, .int x] [] h 0 0
  obtain ⟨a, rfl⟩ : ∃ i : Nat, i = a := ⟨_, rfl⟩
  subst e
  refine goX0_lambda_new_0 hF 10 ?_
  simp (disch := omega) only [wX0_lambda_new_0_0, uX0_lambda_new_0_0, wX0_lambda_new_0_1, wX0_lambda_new_0_4, wX0_lambda_new_0_7, amSI_1, amSI_2, amSI_3, amSI_s, amU_at, amIsR_ref, amIsR_null, amIsR_rf, amRf_some, amRf_none, amClr_int, amClr_ref, amClr_null, amClr_long, amClr_ra, amClr_rf, amFit_int, amFit_oref, amFit_aref, amFit_onull, amFit_anull, amOptSome, amOptNone, List.cons_append, List.nil_append, true_and, and_true, true_implies, not_true_eq_false, not_false_eq_true, false_implies, and_self, Nat.add_zero, Nat.zero_add, ne_eq, Prod.mk.injEq, amC01_0, amC01_1, amC01_nb, amNb0, amNb1, amTcpI_d, Nat.reduceLeDiff, Nat.reduceAdd, Nat.reduceSub, Nat.reduceEqDiff, Nat.le_refl, amN0le, hR.s, hR.r]
  exact amRet.of (by decide) (by decide) hK
def tX0_lambda_new_1 : amT := fun as h K => match as with
  | [.ref a, .int x] => a = (24 : Nat) ∧ rsAt h ∧ K (some (.int (x * h.2.1 25 4))) h
  | _ => False
/-! ReadingStages.lambda$new$1(I)I -/
def kX0_lambda_new_1 : Nat → Bool := fun pc => false
def rX0_lambda_new_1 : List (Nat × amS) := [(2, 1, 0, 0, amTget 0 0), (5, 1, 0, 0, amTget 1 4)]
def eX0_lambda_new_1 (ret : Option Value → amH → Nat → Nat → Prop) (F : amX) : Nat → amX := amWp cX0_lambda_new_1 kX0_lambda_new_1 (amLk rX0_lambda_new_1) (some .int) 0 0 ret F
def sX0_lambda_new_1 (ret : Option Value → amH → Nat → Nat → Prop) (F : amX) : Nat → amX := amWs cX0_lambda_new_1 kX0_lambda_new_1 (amLk rX0_lambda_new_1) (some .int) 0 0 ret F
theorem wX0_lambda_new_1_0 {ret F n h} {v0 st x} : eX0_lambda_new_1 ret F (n + 1) 0 [v0, .int x] (st) h 0 0 = (eX0_lambda_new_1 ret F n 1 [v0, .int x] (.int x :: st) h 0 0) := (amWp_dec rfl dX0_lambda_new_1_0 rfl).trans rfl
theorem uX0_lambda_new_1_0 {ret F n h} {v0 st x} : sX0_lambda_new_1 ret F n 0 [v0, .int x] (st) h 0 0 = (eX0_lambda_new_1 ret F n 1 [v0, .int x] (.int x :: st) h 0 0) := (amWs_dec dX0_lambda_new_1_0 rfl).trans rfl
theorem wX0_lambda_new_1_1 {ret F n h} {v0 v1 st} : eX0_lambda_new_1 ret F (n + 1) 1 [v0, v1] (st) h 0 0 = (amIsR v0 ∧ eX0_lambda_new_1 ret F n 2 [v0, v1] (v0 :: st) h 0 0) := (amWp_dec rfl dX0_lambda_new_1_1 rfl).trans rfl
theorem wX0_lambda_new_1_2 {ret F n h} {v0 v1 r0 a} : eX0_lambda_new_1 ret F (n + 1) 2 [v0, v1] (.ref a :: r0 :: []) h 0 0 = (h.1 a = (0, 0) ∧ eX0_lambda_new_1 ret F n 5 [v0, v1] (va_rf (h.2.2.2.1 a 0) :: r0 :: []) h 0 0) := (amWp_dec rfl dX0_lambda_new_1_2 rfl).trans (amS4 (Nat.le_of_ble_eq_true rfl) (Nat.le_of_ble_eq_true rfl) (Nat.le_of_ble_eq_true rfl) (Nat.le_of_ble_eq_true rfl))
theorem wX0_lambda_new_1_5 {ret F n h} {v0 v1 r0 a} : eX0_lambda_new_1 ret F (n + 1) 5 [v0, v1] (.ref a :: r0 :: []) h 0 0 = (h.1 a = (0, 1) ∧ eX0_lambda_new_1 ret F n 8 [v0, v1] (.int (h.2.1 a 4) :: r0 :: []) h 0 0) := (amWp_dec rfl dX0_lambda_new_1_5 rfl).trans (amS4 (Nat.le_of_ble_eq_true rfl) (Nat.le_of_ble_eq_true rfl) (Nat.le_of_ble_eq_true rfl) (Nat.le_of_ble_eq_true rfl))
theorem wX0_lambda_new_1_8 {ret F n h} {v0 v1 st y x} : eX0_lambda_new_1 ret F (n + 1) 8 [v0, v1] (.int y :: .int x :: st) h 0 0 = (eX0_lambda_new_1 ret F n 9 [v0, v1] (.int (x * y) :: st) h 0 0) := (amWp_dec rfl dX0_lambda_new_1_8 rfl).trans rfl
theorem wX0_lambda_new_1_9 {ret F n h} {v0 v1 x} : eX0_lambda_new_1 ret F (n + 1) 9 [v0, v1] ([.int x]) h 0 0 = (ret (some (.int x)) h 0 0) := (amWp_dec rfl dX0_lambda_new_1_9 rfl).trans (amTrue ⟨_, rfl, rfl⟩)
theorem evX0_lambda_new_1 (l : Launch) (G : amG) : ∀ pc S i sz, amLk rX0_lambda_new_1 pc = some S → decode cX0_lambda_new_1 pc = .ok (i, sz) → amSiteP pc G l yX0_lambda_new_1.cls yX0_lambda_new_1.name yX0_lambda_new_1.desc (amRm 1 0 0) i sz S.1 S.2.1 S.2.2.1 S.2.2.2 := amLk_ok (by
  refine List.forall_mem_cons.mpr ⟨⟨_, _, dX0_lambda_new_1_2, amSite.P (amSiteGet ⟨_, rfl, by decide, Or.inl q301⟩)⟩, ?_⟩
  refine List.forall_mem_cons.mpr ⟨⟨_, _, dX0_lambda_new_1_5, amSite.P (amSiteGet ⟨_, rfl, by decide, Or.inr ⟨"ReadingStages", List.mem_of_getElem? (i := 6) rfl⟩⟩)⟩, ?_⟩
  exact fun _ h => absurd h List.not_mem_nil)
theorem goX0_lambda_new_1 {ret F} (hF : amCld cX0_lambda_new_1 kX0_lambda_new_1 (amLk rX0_lambda_new_1) (some .int) 0 0 ret F) (n : Nat) {pc ls st h k z} (q : sX0_lambda_new_1 ret F n pc ls st h k z) : F pc ls st h k z := hF.1 n pc ls st h k z q
theorem metX0_lambda_new_1 (l : Launch) (G : amG) : amMet l G yX0_lambda_new_1 (ws_ yX0_lambda_new_1 cX0_lambda_new_1 2 (some .int)) 1 0 0 tX0_lambda_new_1 := by
  refine amMet_of (cut := kX0_lambda_new_1) (by decide +kernel) (evX0_lambda_new_1 l G) ?_
  intro as h K hT
  match as, hT with
  | [.ref a, .int x], ⟨e, hR, hK⟩ =>
  refine ⟨Nat.le_of_ble_eq_true rfl, fun F hF => ?_⟩
  show F 0 [.ref a, .int x] [] h 0 0
  obtain ⟨a, rfl⟩ : ∃ i : Nat, i = a := ⟨_, rfl⟩
  subst e
  refine goX0_lambda_new_1 hF 10 ?_
  simp (disch := omega) only [wX0_lambda_new_1_0, uX0_lambda_new_1_0, wX0_lambda_new_1_1, wX0_lambda_new_1_2, wX0_lambda_new_1_5, wX0_lambda_new_1_8, wX0_lambda_new_1_9, amSI_1, amSI_2, amSI_3, amSI_s, amU_at, amIsR_ref, amIsR_null, amIsR_rf, amRf_some, amRf_none, amClr_int, amClr_ref, amClr_null, amClr_long, amClr_ra, amClr_rf, amFit_int, amFit_oref, amFit_aref, amFit_onull, amFit_anull, amOptSome, amOptNone, List.cons_append, List.nil_append, true_and, and_true, true_implies, not_true_eq_false, not_false_eq_true, false_implies, and_self, Nat.add_zero, Nat.zero_add, ne_eq, Prod.mk.injEq, amC01_0, amC01_1, amC01_nb, amNb0, amNb1, amTcpI_d, Nat.reduceLeDiff, Nat.reduceAdd, Nat.reduceSub, Nat.reduceEqDiff, Nat.le_refl, amN0le, hR.s, hR.r]
  exact amRet.of (by decide) (by decide) hK
def tX0_lambda_new_2 : amT := fun as h K => match as with
  | [.ref a, .int x] => a = (24 : Nat) ∧ rsAt h ∧ K (some (.int (h.2.1 25 4 <<< ((x - nI 1) &&& 31)))) h
  | _ => False
/-! ReadingStages.lambda$new$2(I)I -/
def kX0_lambda_new_2 : Nat → Bool := fun pc => false
def rX0_lambda_new_2 : List (Nat × amS) := [(1, 1, 0, 0, amTget 0 0), (4, 1, 0, 0, amTget 1 4)]
def eX0_lambda_new_2 (ret : Option Value → amH → Nat → Nat → Prop) (F : amX) : Nat → amX := amWp cX0_lambda_new_2 kX0_lambda_new_2 (amLk rX0_lambda_new_2) (some .int) 0 0 ret F
def sX0_lambda_new_2 (ret : Option Value → amH → Nat → Nat → Prop) (F : amX) : Nat → amX := amWs cX0_lambda_new_2 kX0_lambda_new_2 (amLk rX0_lambda_new_2) (some .int) 0 0 ret F
theorem wX0_lambda_new_2_0 {ret F n h} {v0 v1 st} : eX0_lambda_new_2 ret F (n + 1) 0 [v0, v1] (st) h 0 0 = (amIsR v0 ∧ eX0_lambda_new_2 ret F n 1 [v0, v1] (v0 :: st) h 0 0) := (amWp_dec rfl dX0_lambda_new_2_0 rfl).trans rfl
theorem uX0_lambda_new_2_0 {ret F n h} {v0 v1 st} : sX0_lambda_new_2 ret F n 0 [v0, v1] (st) h 0 0 = (amIsR v0 ∧ eX0_lambda_new_2 ret F n 1 [v0, v1] (v0 :: st) h 0 0) := (amWs_dec dX0_lambda_new_2_0 rfl).trans rfl
theorem wX0_lambda_new_2_1 {ret F n h} {v0 v1 a} : eX0_lambda_new_2 ret F (n + 1) 1 [v0, v1] (.ref a :: []) h 0 0 = (h.1 a = (0, 0) ∧ eX0_lambda_new_2 ret F n 4 [v0, v1] (va_rf (h.2.2.2.1 a 0) :: []) h 0 0) := (amWp_dec rfl dX0_lambda_new_2_1 rfl).trans (amS4 (Nat.le_of_ble_eq_true rfl) (Nat.le_of_ble_eq_true rfl) (Nat.le_of_ble_eq_true rfl) (Nat.le_of_ble_eq_true rfl))
theorem wX0_lambda_new_2_4 {ret F n h} {v0 v1 a} : eX0_lambda_new_2 ret F (n + 1) 4 [v0, v1] (.ref a :: []) h 0 0 = (h.1 a = (0, 1) ∧ eX0_lambda_new_2 ret F n 7 [v0, v1] (.int (h.2.1 a 4) :: []) h 0 0) := (amWp_dec rfl dX0_lambda_new_2_4 rfl).trans (amS4 (Nat.le_of_ble_eq_true rfl) (Nat.le_of_ble_eq_true rfl) (Nat.le_of_ble_eq_true rfl) (Nat.le_of_ble_eq_true rfl))
theorem wX0_lambda_new_2_7 {ret F n h} {v0 st x} : eX0_lambda_new_2 ret F (n + 1) 7 [v0, .int x] (st) h 0 0 = (eX0_lambda_new_2 ret F n 8 [v0, .int x] (.int x :: st) h 0 0) := (amWp_dec rfl dX0_lambda_new_2_7 rfl).trans rfl
theorem wX0_lambda_new_2_8 {ret F n h} {v0 v1 st} : eX0_lambda_new_2 ret F (n + 1) 8 [v0, v1] (st) h 0 0 = (eX0_lambda_new_2 ret F n 9 [v0, v1] (.int (nI 1) :: st) h 0 0) := (amWp_dec rfl dX0_lambda_new_2_8 rfl).trans rfl
theorem wX0_lambda_new_2_9 {ret F n h} {v0 v1 st y x} : eX0_lambda_new_2 ret F (n + 1) 9 [v0, v1] (.int y :: .int x :: st) h 0 0 = (eX0_lambda_new_2 ret F n 10 [v0, v1] (.int (x - y) :: st) h 0 0) := (amWp_dec rfl dX0_lambda_new_2_9 rfl).trans rfl
theorem wX0_lambda_new_2_10 {ret F n h} {v0 v1 st y x} : eX0_lambda_new_2 ret F (n + 1) 10 [v0, v1] (.int y :: .int x :: st) h 0 0 = (eX0_lambda_new_2 ret F n 11 [v0, v1] (.int (x <<< (y &&& 31)) :: st) h 0 0) := (amWp_dec rfl dX0_lambda_new_2_10 rfl).trans rfl
theorem wX0_lambda_new_2_11 {ret F n h} {v0 v1 x} : eX0_lambda_new_2 ret F (n + 1) 11 [v0, v1] ([.int x]) h 0 0 = (ret (some (.int x)) h 0 0) := (amWp_dec rfl dX0_lambda_new_2_11 rfl).trans (amTrue ⟨_, rfl, rfl⟩)
theorem evX0_lambda_new_2 (l : Launch) (G : amG) : ∀ pc S i sz, amLk rX0_lambda_new_2 pc = some S → decode cX0_lambda_new_2 pc = .ok (i, sz) → amSiteP pc G l yX0_lambda_new_2.cls yX0_lambda_new_2.name yX0_lambda_new_2.desc (amRm 1 0 0) i sz S.1 S.2.1 S.2.2.1 S.2.2.2 := amLk_ok (by
  refine List.forall_mem_cons.mpr ⟨⟨_, _, dX0_lambda_new_2_1, amSite.P (amSiteGet ⟨_, rfl, by decide, Or.inl q301⟩)⟩, ?_⟩
  refine List.forall_mem_cons.mpr ⟨⟨_, _, dX0_lambda_new_2_4, amSite.P (amSiteGet ⟨_, rfl, by decide, Or.inr ⟨"ReadingStages", List.mem_of_getElem? (i := 6) rfl⟩⟩)⟩, ?_⟩
  exact fun _ h => absurd h List.not_mem_nil)
theorem goX0_lambda_new_2 {ret F} (hF : amCld cX0_lambda_new_2 kX0_lambda_new_2 (amLk rX0_lambda_new_2) (some .int) 0 0 ret F) (n : Nat) {pc ls st h k z} (q : sX0_lambda_new_2 ret F n pc ls st h k z) : F pc ls st h k z := hF.1 n pc ls st h k z q
theorem metX0_lambda_new_2 (l : Launch) (G : amG) : amMet l G yX0_lambda_new_2 (ws_ yX0_lambda_new_2 cX0_lambda_new_2 2 (some .int)) 1 0 0 tX0_lambda_new_2 := by
  refine amMet_of (cut := kX0_lambda_new_2) (by decide +kernel) (evX0_lambda_new_2 l G) ?_
  intro as h K hT
  match as, hT with
  | [.ref a, .int x], ⟨e, hR, hK⟩ =>
  refine ⟨Nat.le_of_ble_eq_true rfl, fun F hF => ?_⟩
  show F 0 [.ref a, .int x] [] h 0 0
  obtain ⟨a, rfl⟩ : ∃ i : Nat, i = a := ⟨_, rfl⟩
  subst e
  refine goX0_lambda_new_2 hF 10 ?_
  simp (disch := omega) only [wX0_lambda_new_2_0, uX0_lambda_new_2_0, wX0_lambda_new_2_1, wX0_lambda_new_2_4, wX0_lambda_new_2_7, wX0_lambda_new_2_8, wX0_lambda_new_2_9, wX0_lambda_new_2_10, wX0_lambda_new_2_11, amSI_1, amSI_2, amSI_3, amSI_s, amU_at, amIsR_ref, amIsR_null, amIsR_rf, amRf_some, amRf_none, amClr_int, amClr_ref, amClr_null, amClr_long, amClr_ra, amClr_rf, amFit_int, amFit_oref, amFit_aref, amFit_onull, amFit_anull, amOptSome, amOptNone, List.cons_append, List.nil_append, true_and, and_true, true_implies, not_true_eq_false, not_false_eq_true, false_implies, and_self, Nat.add_zero, Nat.zero_add, ne_eq, Prod.mk.injEq, amC01_0, amC01_1, amC01_nb, amNb0, amNb1, amTcpI_d, Nat.reduceLeDiff, Nat.reduceAdd, Nat.reduceSub, Nat.reduceEqDiff, Nat.le_refl, amN0le, hR.s, hR.r]
  exact amRet.of (by decide) (by decide) hK
def tX0_isBook : amT := fun as h K => match as with
  | [.ref a, .long y] => a = (24 : Nat) ∧ rsAt h ∧ K (some (.int (amC01 (lN 0 ≤ y ∧ y ≤ (h.2.1 28 1 - nI 1).toInt64)))) h
  | _ => False
/-! ReadingStages.isBook(J)Z -/
def kX0_isBook : Nat → Bool := fun pc => false
def rX0_isBook : List (Nat × amS) := [(3, 1, 0, 0, amTget 0 0), (6, 1, 0, 0, (amRecv 1 tX1_many)), (12, 3, 0, 0, tX0_isIn)]
def eX0_isBook (ret : Option Value → amH → Nat → Nat → Prop) (F : amX) : Nat → amX := amWp cX0_isBook kX0_isBook (amLk rX0_isBook) (some .boolean) 0 0 ret F
def sX0_isBook (ret : Option Value → amH → Nat → Nat → Prop) (F : amX) : Nat → amX := amWs cX0_isBook kX0_isBook (amLk rX0_isBook) (some .boolean) 0 0 ret F
theorem wX0_isBook_0 {ret F n h} {v0 v2 st y} : eX0_isBook ret F (n + 1) 0 [v0, .long y, v2] (st) h 0 0 = (eX0_isBook ret F n 1 [v0, .long y, v2] (.long y :: st) h 0 0) := (amWp_dec rfl dX0_isBook_0 rfl).trans rfl
theorem uX0_isBook_0 {ret F n h} {v0 v2 st y} : sX0_isBook ret F n 0 [v0, .long y, v2] (st) h 0 0 = (eX0_isBook ret F n 1 [v0, .long y, v2] (.long y :: st) h 0 0) := (amWs_dec dX0_isBook_0 rfl).trans rfl
theorem wX0_isBook_1 {ret F n h} {v0 v1 v2 st} : eX0_isBook ret F (n + 1) 1 [v0, v1, v2] (st) h 0 0 = (eX0_isBook ret F n 2 [v0, v1, v2] (.long (lN 0) :: st) h 0 0) := (amWp_dec rfl dX0_isBook_1 rfl).trans rfl
theorem wX0_isBook_2 {ret F n h} {v0 v1 v2 st} : eX0_isBook ret F (n + 1) 2 [v0, v1, v2] (st) h 0 0 = (amIsR v0 ∧ eX0_isBook ret F n 3 [v0, v1, v2] (v0 :: st) h 0 0) := (amWp_dec rfl dX0_isBook_2 rfl).trans rfl
theorem wX0_isBook_3 {ret F n h} {v0 v1 v2 r0 r1 a} : eX0_isBook ret F (n + 1) 3 [v0, v1, v2] (.ref a :: r0 :: r1 :: []) h 0 0 = (h.1 a = (0, 0) ∧ eX0_isBook ret F n 6 [v0, v1, v2] (va_rf (h.2.2.2.1 a 0) :: r0 :: r1 :: []) h 0 0) := (amWp_dec rfl dX0_isBook_3 rfl).trans (amS4 (Nat.le_of_ble_eq_true rfl) (Nat.le_of_ble_eq_true rfl) (Nat.le_of_ble_eq_true rfl) (Nat.le_of_ble_eq_true rfl))
theorem wX0_isBook_6 {ret F n h} {v0 v1 v2 x0 r0 r1} : eX0_isBook ret F (n + 1) 6 [v0, v1, v2] (.ref x0 :: r0 :: r1 :: []) h 0 0 = (h.1 x0 = (0, 1) ∧ tX1_many [.ref x0] h (fun v h => eX0_isBook ret F n 9 [v0, v1, v2] (v.toList ++ (r0 :: r1 :: [])) h 0 0)) := (amWp_dec rfl dX0_isBook_6 rfl).trans (amS4 (Nat.le_of_ble_eq_true rfl) (Nat.le_of_ble_eq_true rfl) (Nat.le_of_ble_eq_true rfl) (Nat.le_of_ble_eq_true rfl))
theorem wX0_isBook_9 {ret F n h} {v0 v1 v2 st} : eX0_isBook ret F (n + 1) 9 [v0, v1, v2] (st) h 0 0 = (eX0_isBook ret F n 10 [v0, v1, v2] (.int (nI 1) :: st) h 0 0) := (amWp_dec rfl dX0_isBook_9 rfl).trans rfl
theorem wX0_isBook_10 {ret F n h} {v0 v1 v2 st y x} : eX0_isBook ret F (n + 1) 10 [v0, v1, v2] (.int y :: .int x :: st) h 0 0 = (eX0_isBook ret F n 11 [v0, v1, v2] (.int (x - y) :: st) h 0 0) := (amWp_dec rfl dX0_isBook_10 rfl).trans rfl
theorem wX0_isBook_11 {ret F n h} {v0 v1 v2 st x} : eX0_isBook ret F (n + 1) 11 [v0, v1, v2] (.int x :: st) h 0 0 = (eX0_isBook ret F n 12 [v0, v1, v2] (.long x.toInt64 :: st) h 0 0) := (amWp_dec rfl dX0_isBook_11 rfl).trans rfl
theorem wX0_isBook_12 {ret F n h} {v0 v1 v2 x2 x1 x0} : eX0_isBook ret F (n + 1) 12 [v0, v1, v2] (.long x2 :: .long x1 :: .long x0 :: []) h 0 0 = (tX0_isIn [.long x0, .long x1, .long x2] h (fun v h => eX0_isBook ret F n 15 [v0, v1, v2] (v.toList ++ ([])) h 0 0)) := (amWp_dec rfl dX0_isBook_12 rfl).trans (amS4 (Nat.le_of_ble_eq_true rfl) (Nat.le_of_ble_eq_true rfl) (Nat.le_of_ble_eq_true rfl) (Nat.le_of_ble_eq_true rfl))
theorem wX0_isBook_15 {ret F n h} {v0 v1 v2 x} : eX0_isBook ret F (n + 1) 15 [v0, v1, v2] ([.int x]) h 0 0 = (narrow .boolean (.int x) = .int x ∧ ret (some (.int x)) h 0 0) := (amWp_dec rfl dX0_isBook_15 rfl).trans (amRetTy)
theorem evX0_isBook (l : Launch) (G : amG) : ∀ pc S i sz, amLk rX0_isBook pc = some S → decode cX0_isBook pc = .ok (i, sz) → amSiteP pc G l yX0_isBook.cls yX0_isBook.name yX0_isBook.desc (amRm 2 0 0) i sz S.1 S.2.1 S.2.2.1 S.2.2.2 := amLk_ok (by
  refine List.forall_mem_cons.mpr ⟨⟨_, _, dX0_isBook_3, amSite.P (amSiteGet ⟨_, rfl, by decide, Or.inl q301⟩)⟩, ?_⟩
  refine List.forall_mem_cons.mpr ⟨⟨_, _, dX0_isBook_6, amSite.P (amSiteV (C := RX1) (metX1_many l G) rfl (by decide) (by decide) (lw_V q478 q479 q480 q87 q481) ⟨_, rfl, rfl⟩ ⟨rfl, by decide +kernel, by decide +kernel, by decide +kernel⟩)⟩, ?_⟩
  refine List.forall_mem_cons.mpr ⟨⟨_, _, dX0_isBook_12, amSite.P (amSiteS (metX0_isIn l G) rfl (by decide) (by decide) (lw_S q382 q383 q86 q384) ⟨by decide +kernel, by decide +kernel, by decide +kernel⟩)⟩, ?_⟩
  exact fun _ h => absurd h List.not_mem_nil)
theorem goX0_isBook {ret F} (hF : amCld cX0_isBook kX0_isBook (amLk rX0_isBook) (some .boolean) 0 0 ret F) (n : Nat) {pc ls st h k z} (q : sX0_isBook ret F n pc ls st h k z) : F pc ls st h k z := hF.1 n pc ls st h k z q
theorem metX0_isBook (l : Launch) (G : amG) : amMet l G yX0_isBook (ws_ yX0_isBook cX0_isBook 3 (some .boolean)) 2 0 0 tX0_isBook := by
  refine amMet_of (cut := kX0_isBook) (by decide +kernel) (evX0_isBook l G) ?_
  intro as h K hT
  match as, hT with
  | [.ref a, .long y], ⟨e, hR, hK⟩ =>
  refine ⟨Nat.le_of_ble_eq_true rfl, fun F hF => ?_⟩
  show F 0 [.ref a, .long y, .retAddr 0] [] h 0 0
  obtain ⟨a, rfl⟩ : ∃ i : Nat, i = a := ⟨_, rfl⟩
  subst e
  refine goX0_isBook hF 10 ?_
  simp (disch := omega) only [wX0_isBook_0, uX0_isBook_0, wX0_isBook_1, wX0_isBook_2, wX0_isBook_3, wX0_isBook_6, wX0_isBook_9, wX0_isBook_10, wX0_isBook_11, wX0_isBook_12, wX0_isBook_15, amSI_1, amSI_2, amSI_3, amSI_s, amU_at, amIsR_ref, amIsR_null, amIsR_rf, amRf_some, amRf_none, amClr_int, amClr_ref, amClr_null, amClr_long, amClr_ra, amClr_rf, amFit_int, amFit_oref, amFit_aref, amFit_onull, amFit_anull, amOptSome, amOptNone, List.cons_append, List.nil_append, true_and, and_true, true_implies, not_true_eq_false, not_false_eq_true, false_implies, and_self, Nat.add_zero, Nat.zero_add, ne_eq, Prod.mk.injEq, amC01_0, amC01_1, amC01_nb, amNb0, amNb1, amTcpI_d, Nat.reduceLeDiff, Nat.reduceAdd, Nat.reduceSub, Nat.reduceEqDiff, Nat.le_refl, amN0le, hR.s, hR.r, tX0_isIn_d, tX1_many_d]
  exact amRet.of (by decide) (by decide) hK
def tX0_forget : amT := fun as h K => match as with
  | [.ref a] => a = (24 : Nat) ∧ rsAt h ∧ ∀ m', (∀ w : Nat, w < 20 → m' 31 w = nI 0) → (∀ i : Nat, i ≠ 31 → m' i = h.2.1 i) → K none (amSI h m')
  | _ => False
/-! ReadingStages.forget()V -/
def kX0_forget : Nat → Bool := fun pc => pc == 2
def rX0_forget : List (Nat × amS) := [(9, 1, 0, 0, amTget 0 2)]
def eX0_forget (ret : Option Value → amH → Nat → Nat → Prop) (F : amX) : Nat → amX := amWp cX0_forget kX0_forget (amLk rX0_forget) none 0 0 ret F
def sX0_forget (ret : Option Value → amH → Nat → Nat → Prop) (F : amX) : Nat → amX := amWs cX0_forget kX0_forget (amLk rX0_forget) none 0 0 ret F
theorem wX0_forget_0 {ret F n h} {v0 v1 st} : eX0_forget ret F (n + 1) 0 [v0, v1] (st) h 0 0 = (eX0_forget ret F n 1 [v0, v1] (.int (nI 0) :: st) h 0 0) := (amWp_dec rfl dX0_forget_0 rfl).trans rfl
theorem uX0_forget_0 {ret F n h} {v0 v1 st} : sX0_forget ret F n 0 [v0, v1] (st) h 0 0 = (eX0_forget ret F n 1 [v0, v1] (.int (nI 0) :: st) h 0 0) := (amWs_dec dX0_forget_0 rfl).trans rfl
theorem wX0_forget_1 {ret F n h} {v0 v1 st x} : eX0_forget ret F (n + 1) 1 [v0, v1] (.int x :: st) h 0 0 = (eX0_forget ret F n 2 [amClr v0, .int x] (st) h 0 0) := (amWp_dec rfl dX0_forget_1 rfl).trans (amTrue (Nat.le_of_ble_eq_true rfl))
theorem wX0_forget_2 {ret F n ls st h k z} : eX0_forget ret F (n + 1) 2 ls st h k z = F 2 ls st h k z := amWp_cut rfl
theorem uX0_forget_2 {ret F n h} {v0 st x} : sX0_forget ret F n 2 [v0, .int x] (st) h 0 0 = (eX0_forget ret F n 3 [v0, .int x] (.int x :: st) h 0 0) := (amWs_dec dX0_forget_2 rfl).trans rfl
theorem wX0_forget_3 {ret F n h} {v0 v1 st} : eX0_forget ret F (n + 1) 3 [v0, v1] (st) h 0 0 = (eX0_forget ret F n 5 [v0, v1] (.int (nI 20) :: st) h 0 0) := (amWp_dec rfl dX0_forget_3 rfl).trans rfl
theorem wX0_forget_5 {ret F n h} {v0 v1 st y x} : eX0_forget ret F (n + 1) 5 [v0, v1] (.int y :: .int x :: st) h 0 0 = ((y ≤ x → eX0_forget ret F n 21 [v0, v1] (st) h 0 0) ∧ (¬ y ≤ x → eX0_forget ret F n 8 [v0, v1] (st) h 0 0)) := (amWp_dec rfl dX0_forget_5 rfl).trans rfl
theorem wX0_forget_8 {ret F n h} {v0 v1 st} : eX0_forget ret F (n + 1) 8 [v0, v1] (st) h 0 0 = (amIsR v0 ∧ eX0_forget ret F n 9 [v0, v1] (v0 :: st) h 0 0) := (amWp_dec rfl dX0_forget_8 rfl).trans rfl
theorem wX0_forget_9 {ret F n h} {v0 v1 a} : eX0_forget ret F (n + 1) 9 [v0, v1] (.ref a :: []) h 0 0 = (h.1 a = (0, 0) ∧ eX0_forget ret F n 12 [v0, v1] (va_rf (h.2.2.2.1 a 2) :: []) h 0 0) := (amWp_dec rfl dX0_forget_9 rfl).trans (amS4 (Nat.le_of_ble_eq_true rfl) (Nat.le_of_ble_eq_true rfl) (Nat.le_of_ble_eq_true rfl) (Nat.le_of_ble_eq_true rfl))
theorem wX0_forget_12 {ret F n h} {v0 st x} : eX0_forget ret F (n + 1) 12 [v0, .int x] (st) h 0 0 = (eX0_forget ret F n 13 [v0, .int x] (.int x :: st) h 0 0) := (amWp_dec rfl dX0_forget_12 rfl).trans rfl
theorem wX0_forget_13 {ret F n h} {v0 v1 st} : eX0_forget ret F (n + 1) 13 [v0, v1] (st) h 0 0 = (eX0_forget ret F n 14 [v0, v1] (.int (nI 0) :: st) h 0 0) := (amWp_dec rfl dX0_forget_13 rfl).trans rfl
theorem wX0_forget_14 {ret F n h} {v0 v1 st y x a} : eX0_forget ret F (n + 1) 14 [v0, v1] (.int y :: .int x :: .ref a :: st) h 0 0 = ((h.1 a).1 = 2 ∧ vp_in x (h.1 a).2 ∧ amN0 ≤ a ∧ eX0_forget ret F n 15 [v0, v1] (st) (amSI h (amU h.2.1 a x.toNatClampNeg (vp_nar .byte y))) 0 0) := (amWp_dec rfl dX0_forget_14 rfl).trans rfl
theorem wX0_forget_15 {ret F n h} {v0 st x} : eX0_forget ret F (n + 1) 15 [v0, .int x] (st) h 0 0 = (eX0_forget ret F n 18 [amClr v0, .int (x + nI 1)] (st) h 0 0) := (amWp_dec rfl dX0_forget_15 rfl).trans rfl
theorem wX0_forget_18 {ret F n h} {v0 v1 st} : eX0_forget ret F (n + 1) 18 [v0, v1] (st) h 0 0 = (eX0_forget ret F n 2 [v0, v1] (st) h 0 0) := (amWp_dec rfl dX0_forget_18 rfl).trans rfl
theorem wX0_forget_21 {ret F n h} {v0 v1} : eX0_forget ret F (n + 1) 21 [v0, v1] ([]) h 0 0 = (ret none h 0 0) := (amWp_dec rfl dX0_forget_21 rfl).trans (amTrue rfl)
theorem evX0_forget (l : Launch) (G : amG) : ∀ pc S i sz, amLk rX0_forget pc = some S → decode cX0_forget pc = .ok (i, sz) → amSiteP pc G l yX0_forget.cls yX0_forget.name yX0_forget.desc (amRm 1 0 0) i sz S.1 S.2.1 S.2.2.1 S.2.2.2 := amLk_ok (by
  refine List.forall_mem_cons.mpr ⟨⟨_, _, dX0_forget_9, amSite.P (amSiteGet ⟨_, rfl, by decide, Or.inl q303⟩)⟩, ?_⟩
  exact fun _ h => absurd h List.not_mem_nil)
theorem goX0_forget {ret F} (hF : amCld cX0_forget kX0_forget (amLk rX0_forget) none 0 0 ret F) (n : Nat) {pc ls st h k z} (q : sX0_forget ret F n pc ls st h k z) : F pc ls st h k z := hF.1 n pc ls st h k z q
theorem metX0_forget (l : Launch) (G : amG) : amMet l G yX0_forget (ws_ yX0_forget cX0_forget 2 none) 1 0 0 tX0_forget := by
  refine amMet_of (cut := kX0_forget) (by decide +kernel) (evX0_forget l G) ?_
  intro as h K hT
  match as, hT with
  | [.ref a], ⟨e, hR, hK⟩ =>
  refine ⟨Nat.le_of_ble_eq_true rfl, fun F hF => ?_⟩
  show F 0 [.ref a, .retAddr 0] [] h 0 0
  obtain ⟨a, rfl⟩ : ∃ i : Nat, i = a := ⟨_, rfl⟩
  subst e
  have loop : ∀ t p m, p + t = 20 → (∀ w : Nat, w < p → m 31 w = nI 0) → (∀ i : Nat, i ≠ 31 → m i = h.2.1 i) → F 2 [.ref 24, .int (nI p)] [] (amSI h m) 0 0 := by
    intro t
    induction t with
    | zero =>
      intro p m e1 i1 i2
      have e : p = 20 := by omega
      subst e
      have q : (20 ≤ 20) = True := eq_true (Nat.le_refl _)
      refine goX0_forget hF 20 ?_
      simp (disch := omega) only [wX0_forget_0, uX0_forget_0, wX0_forget_1, wX0_forget_2, uX0_forget_2, wX0_forget_3, wX0_forget_5, wX0_forget_8, wX0_forget_9, wX0_forget_12, wX0_forget_13, wX0_forget_14, wX0_forget_15, wX0_forget_18, wX0_forget_21, amSI_1, amSI_2, amSI_3, amSI_s, amU_at, amIsR_ref, amIsR_null, amIsR_rf, amRf_some, amRf_none, amClr_int, amClr_ref, amClr_null, amClr_long, amClr_ra, amClr_rf, amFit_int, amFit_oref, amFit_aref, amFit_onull, amFit_anull, amOptSome, amOptNone, List.cons_append, List.nil_append, true_and, and_true, true_implies, not_true_eq_false, not_false_eq_true, false_implies, and_self, Nat.add_zero, Nat.zero_add, ne_eq, Prod.mk.injEq, amC01_0, amC01_1, amC01_nb, amNb0, amNb1, amTcpI_d, Nat.reduceLeDiff, Nat.reduceAdd, Nat.reduceSub, Nat.reduceEqDiff, Nat.le_refl, amN0le, hR.s, hR.r, amLeI, q]
      exact amRet.of (by decide) (by decide) (hK m i1 i2)
    | succ t ih =>
      intro p m e1 i1 i2
      have q : (20 ≤ p) = False := eq_false (by omega)
      have nx := ih (p + 1) (amU m 31 p (nI 0)) (by omega) (fun w hw => by
        by_cases e : w = p
        · subst e; simp (disch := omega) only [amU_at, amU_ne, amU_nj, amU_neR, up_ne, up_at, amSI_2]
        · simp (disch := omega) only [amU_at, amU_ne, amU_nj, amU_neR, up_ne, up_at, amSI_2]
          exact i1 w (by omega)) (fun i hi => by
        simp (disch := omega) only [amU_at, amU_ne, amU_nj, amU_neR, up_ne, up_at, amSI_2]
        exact i2 i hi)
      refine goX0_forget hF 20 ?_
      simp (disch := omega) only [wX0_forget_0, uX0_forget_0, wX0_forget_1, wX0_forget_2, uX0_forget_2, wX0_forget_3, wX0_forget_5, wX0_forget_8, wX0_forget_9, wX0_forget_12, wX0_forget_13, wX0_forget_14, wX0_forget_15, wX0_forget_18, wX0_forget_21, amSI_1, amSI_2, amSI_3, amSI_s, amU_at, amIsR_ref, amIsR_null, amIsR_rf, amRf_some, amRf_none, amClr_int, amClr_ref, amClr_null, amClr_long, amClr_ra, amClr_rf, amFit_int, amFit_oref, amFit_aref, amFit_onull, amFit_anull, amOptSome, amOptNone, List.cons_append, List.nil_append, true_and, and_true, true_implies, not_true_eq_false, not_false_eq_true, false_implies, and_self, Nat.add_zero, Nat.zero_add, ne_eq, Prod.mk.injEq, amC01_0, amC01_1, amC01_nb, amNb0, amNb1, amTcpI_d, Nat.reduceLeDiff, Nat.reduceAdd, Nat.reduceSub, Nat.reduceEqDiff, Nat.le_refl, amN0le, hR.s, hR.r, amLeI, q, amVI, amCl_nI, amAdd, amByteN]
      exact nx
  refine goX0_forget hF 20 ?_
  simp (disch := omega) only [wX0_forget_0, uX0_forget_0, wX0_forget_1, wX0_forget_2, uX0_forget_2, wX0_forget_3, wX0_forget_5, wX0_forget_8, wX0_forget_9, wX0_forget_12, wX0_forget_13, wX0_forget_14, wX0_forget_15, wX0_forget_18, wX0_forget_21, amSI_1, amSI_2, amSI_3, amSI_s, amU_at, amIsR_ref, amIsR_null, amIsR_rf, amRf_some, amRf_none, amClr_int, amClr_ref, amClr_null, amClr_long, amClr_ra, amClr_rf, amFit_int, amFit_oref, amFit_aref, amFit_onull, amFit_anull, amOptSome, amOptNone, List.cons_append, List.nil_append, true_and, and_true, true_implies, not_true_eq_false, not_false_eq_true, false_implies, and_self, Nat.add_zero, Nat.zero_add, ne_eq, Prod.mk.injEq, amC01_0, amC01_1, amC01_nb, amNb0, amNb1, amTcpI_d, Nat.reduceLeDiff, Nat.reduceAdd, Nat.reduceSub, Nat.reduceEqDiff, Nat.le_refl, amN0le, hR.s, hR.r]
  exact loop 20 0 h.2.1 (by omega) (fun w hw => absurd hw (Nat.not_lt_zero w)) (fun i _ => rfl)
theorem tX0_forget_d {a : Nat} {h : amH} {K : Option Value → amH → Prop} : tX0_forget [.ref a] h K = (a = (24 : Nat) ∧ rsAt h ∧ ∀ m', (∀ w : Nat, w < 20 → m' 31 w = nI 0) → (∀ i : Nat, i ≠ 31 → m' i = h.2.1 i) → K none (amSI h m')) := rfl
def tX0_strong : amT := fun as h K => match as with
  | [.ref a] => ∃ s : Nat → Nat, a = (24 : Nat) ∧ rsAt h ∧ (∀ w : Nat, w < 20 → h.2.1 31 w = nI (s w) ∧ s w < 128) ∧ K (some (.int (nI (bitsOf (fun w => decide (0 < s w)) 20)))) h
  | _ => False
/-! ReadingStages.strong()I -/
def kX0_strong : Nat → Bool := fun pc => pc == 4
def rX0_strong : List (Nat × amS) := [(12, 1, 0, 0, amTget 0 2)]
def eX0_strong (ret : Option Value → amH → Nat → Nat → Prop) (F : amX) : Nat → amX := amWp cX0_strong kX0_strong (amLk rX0_strong) (some .int) 0 0 ret F
def sX0_strong (ret : Option Value → amH → Nat → Nat → Prop) (F : amX) : Nat → amX := amWs cX0_strong kX0_strong (amLk rX0_strong) (some .int) 0 0 ret F
theorem wX0_strong_0 {ret F n h} {v0 v1 v2 st} : eX0_strong ret F (n + 1) 0 [v0, v1, v2] (st) h 0 0 = (eX0_strong ret F n 1 [v0, v1, v2] (.int (nI 0) :: st) h 0 0) := (amWp_dec rfl dX0_strong_0 rfl).trans rfl
theorem uX0_strong_0 {ret F n h} {v0 v1 v2 st} : sX0_strong ret F n 0 [v0, v1, v2] (st) h 0 0 = (eX0_strong ret F n 1 [v0, v1, v2] (.int (nI 0) :: st) h 0 0) := (amWs_dec dX0_strong_0 rfl).trans rfl
theorem wX0_strong_1 {ret F n h} {v0 v1 v2 st x} : eX0_strong ret F (n + 1) 1 [v0, v1, v2] (.int x :: st) h 0 0 = (eX0_strong ret F n 2 [amClr v0, .int x, v2] (st) h 0 0) := (amWp_dec rfl dX0_strong_1 rfl).trans (amTrue (Nat.le_of_ble_eq_true rfl))
theorem wX0_strong_2 {ret F n h} {v0 v1 v2 st} : eX0_strong ret F (n + 1) 2 [v0, v1, v2] (st) h 0 0 = (eX0_strong ret F n 3 [v0, v1, v2] (.int (nI 0) :: st) h 0 0) := (amWp_dec rfl dX0_strong_2 rfl).trans rfl
theorem wX0_strong_3 {ret F n h} {v0 v1 v2 st x} : eX0_strong ret F (n + 1) 3 [v0, v1, v2] (.int x :: st) h 0 0 = (eX0_strong ret F n 4 [v0, amClr v1, .int x] (st) h 0 0) := (amWp_dec rfl dX0_strong_3 rfl).trans (amTrue (Nat.le_of_ble_eq_true rfl))
theorem wX0_strong_4 {ret F n ls st h k z} : eX0_strong ret F (n + 1) 4 ls st h k z = F 4 ls st h k z := amWp_cut rfl
theorem uX0_strong_4 {ret F n h} {v0 v1 st x} : sX0_strong ret F n 4 [v0, v1, .int x] (st) h 0 0 = (eX0_strong ret F n 5 [v0, v1, .int x] (.int x :: st) h 0 0) := (amWs_dec dX0_strong_4 rfl).trans rfl
theorem wX0_strong_5 {ret F n h} {v0 v1 v2 st} : eX0_strong ret F (n + 1) 5 [v0, v1, v2] (st) h 0 0 = (eX0_strong ret F n 7 [v0, v1, v2] (.int (nI 20) :: st) h 0 0) := (amWp_dec rfl dX0_strong_5 rfl).trans rfl
theorem wX0_strong_7 {ret F n h} {v0 v1 v2 st y x} : eX0_strong ret F (n + 1) 7 [v0, v1, v2] (.int y :: .int x :: st) h 0 0 = ((y ≤ x → eX0_strong ret F n 35 [v0, v1, v2] (st) h 0 0) ∧ (¬ y ≤ x → eX0_strong ret F n 10 [v0, v1, v2] (st) h 0 0)) := (amWp_dec rfl dX0_strong_7 rfl).trans rfl
theorem wX0_strong_10 {ret F n h} {v0 v2 st x} : eX0_strong ret F (n + 1) 10 [v0, .int x, v2] (st) h 0 0 = (eX0_strong ret F n 11 [v0, .int x, v2] (.int x :: st) h 0 0) := (amWp_dec rfl dX0_strong_10 rfl).trans rfl
theorem wX0_strong_11 {ret F n h} {v0 v1 v2 st} : eX0_strong ret F (n + 1) 11 [v0, v1, v2] (st) h 0 0 = (amIsR v0 ∧ eX0_strong ret F n 12 [v0, v1, v2] (v0 :: st) h 0 0) := (amWp_dec rfl dX0_strong_11 rfl).trans rfl
theorem wX0_strong_12 {ret F n h} {v0 v1 v2 r0 a} : eX0_strong ret F (n + 1) 12 [v0, v1, v2] (.ref a :: r0 :: []) h 0 0 = (h.1 a = (0, 0) ∧ eX0_strong ret F n 15 [v0, v1, v2] (va_rf (h.2.2.2.1 a 2) :: r0 :: []) h 0 0) := (amWp_dec rfl dX0_strong_12 rfl).trans (amS4 (Nat.le_of_ble_eq_true rfl) (Nat.le_of_ble_eq_true rfl) (Nat.le_of_ble_eq_true rfl) (Nat.le_of_ble_eq_true rfl))
theorem wX0_strong_15 {ret F n h} {v0 v1 st x} : eX0_strong ret F (n + 1) 15 [v0, v1, .int x] (st) h 0 0 = (eX0_strong ret F n 16 [v0, v1, .int x] (.int x :: st) h 0 0) := (amWp_dec rfl dX0_strong_15 rfl).trans rfl
theorem wX0_strong_16 {ret F n h} {v0 v1 v2 st x a} : eX0_strong ret F (n + 1) 16 [v0, v1, v2] (.int x :: .ref a :: st) h 0 0 = ((h.1 a).1 = 2 ∧ vp_in x (h.1 a).2 ∧ eX0_strong ret F n 17 [v0, v1, v2] (.int (h.2.1 a x.toNatClampNeg) :: st) h 0 0) := (amWp_dec rfl dX0_strong_16 rfl).trans rfl
theorem wX0_strong_17 {ret F n h} {v0 v1 v2 st x} : eX0_strong ret F (n + 1) 17 [v0, v1, v2] (.int x :: st) h 0 0 = ((x ≤ 0 → eX0_strong ret F n 26 [v0, v1, v2] (st) h 0 0) ∧ (¬ x ≤ 0 → eX0_strong ret F n 20 [v0, v1, v2] (st) h 0 0)) := (amWp_dec rfl dX0_strong_17 rfl).trans rfl
theorem wX0_strong_20 {ret F n h} {v0 v1 v2 st} : eX0_strong ret F (n + 1) 20 [v0, v1, v2] (st) h 0 0 = (eX0_strong ret F n 21 [v0, v1, v2] (.int (nI 1) :: st) h 0 0) := (amWp_dec rfl dX0_strong_20 rfl).trans rfl
theorem wX0_strong_21 {ret F n h} {v0 v1 st x} : eX0_strong ret F (n + 1) 21 [v0, v1, .int x] (st) h 0 0 = (eX0_strong ret F n 22 [v0, v1, .int x] (.int x :: st) h 0 0) := (amWp_dec rfl dX0_strong_21 rfl).trans rfl
theorem wX0_strong_22 {ret F n h} {v0 v1 v2 st y x} : eX0_strong ret F (n + 1) 22 [v0, v1, v2] (.int y :: .int x :: st) h 0 0 = (eX0_strong ret F n 23 [v0, v1, v2] (.int (x <<< (y &&& 31)) :: st) h 0 0) := (amWp_dec rfl dX0_strong_22 rfl).trans rfl
theorem wX0_strong_23 {ret F n h} {v0 v1 v2 st} : eX0_strong ret F (n + 1) 23 [v0, v1, v2] (st) h 0 0 = (eX0_strong ret F n 27 [v0, v1, v2] (st) h 0 0) := (amWp_dec rfl dX0_strong_23 rfl).trans rfl
theorem wX0_strong_26 {ret F n h} {v0 v1 v2 st} : eX0_strong ret F (n + 1) 26 [v0, v1, v2] (st) h 0 0 = (eX0_strong ret F n 27 [v0, v1, v2] (.int (nI 0) :: st) h 0 0) := (amWp_dec rfl dX0_strong_26 rfl).trans rfl
theorem wX0_strong_27 {ret F n h} {v0 v1 v2 st y x} : eX0_strong ret F (n + 1) 27 [v0, v1, v2] (.int y :: .int x :: st) h 0 0 = (eX0_strong ret F n 28 [v0, v1, v2] (.int (x ||| y) :: st) h 0 0) := (amWp_dec rfl dX0_strong_27 rfl).trans rfl
theorem wX0_strong_28 {ret F n h} {v0 v1 v2 st x} : eX0_strong ret F (n + 1) 28 [v0, v1, v2] (.int x :: st) h 0 0 = (eX0_strong ret F n 29 [amClr v0, .int x, v2] (st) h 0 0) := (amWp_dec rfl dX0_strong_28 rfl).trans (amTrue (Nat.le_of_ble_eq_true rfl))
theorem wX0_strong_29 {ret F n h} {v0 v1 st x} : eX0_strong ret F (n + 1) 29 [v0, v1, .int x] (st) h 0 0 = (eX0_strong ret F n 32 [v0, amClr v1, .int (x + nI 1)] (st) h 0 0) := (amWp_dec rfl dX0_strong_29 rfl).trans rfl
theorem wX0_strong_32 {ret F n h} {v0 v1 v2 st} : eX0_strong ret F (n + 1) 32 [v0, v1, v2] (st) h 0 0 = (eX0_strong ret F n 4 [v0, v1, v2] (st) h 0 0) := (amWp_dec rfl dX0_strong_32 rfl).trans rfl
theorem wX0_strong_35 {ret F n h} {v0 v2 st x} : eX0_strong ret F (n + 1) 35 [v0, .int x, v2] (st) h 0 0 = (eX0_strong ret F n 36 [v0, .int x, v2] (.int x :: st) h 0 0) := (amWp_dec rfl dX0_strong_35 rfl).trans rfl
theorem wX0_strong_36 {ret F n h} {v0 v1 v2 x} : eX0_strong ret F (n + 1) 36 [v0, v1, v2] ([.int x]) h 0 0 = (ret (some (.int x)) h 0 0) := (amWp_dec rfl dX0_strong_36 rfl).trans (amTrue ⟨_, rfl, rfl⟩)
theorem evX0_strong (l : Launch) (G : amG) : ∀ pc S i sz, amLk rX0_strong pc = some S → decode cX0_strong pc = .ok (i, sz) → amSiteP pc G l yX0_strong.cls yX0_strong.name yX0_strong.desc (amRm 1 0 0) i sz S.1 S.2.1 S.2.2.1 S.2.2.2 := amLk_ok (by
  refine List.forall_mem_cons.mpr ⟨⟨_, _, dX0_strong_12, amSite.P (amSiteGet ⟨_, rfl, by decide, Or.inl q303⟩)⟩, ?_⟩
  exact fun _ h => absurd h List.not_mem_nil)
theorem goX0_strong {ret F} (hF : amCld cX0_strong kX0_strong (amLk rX0_strong) (some .int) 0 0 ret F) (n : Nat) {pc ls st h k z} (q : sX0_strong ret F n pc ls st h k z) : F pc ls st h k z := hF.1 n pc ls st h k z q
theorem metX0_strong (l : Launch) (G : amG) : amMet l G yX0_strong (ws_ yX0_strong cX0_strong 3 (some .int)) 1 0 0 tX0_strong := by
  refine amMet_of (cut := kX0_strong) (by decide +kernel) (evX0_strong l G) ?_
  intro as h K hT
  match as, hT with
  | [.ref a], ⟨s, e, hR, hs, hK⟩ =>
  refine ⟨Nat.le_of_ble_eq_true rfl, fun F hF => ?_⟩
  show F 0 [.ref a, .retAddr 0, .retAddr 0] [] h 0 0
  obtain ⟨a, rfl⟩ : ∃ i : Nat, i = a := ⟨_, rfl⟩
  subst e
  have loop : ∀ t p, p + t = 20 → F 4 [.ref 24, .int (nI (bitsOf (fun w => decide (0 < s w)) p)), .int (nI p)] [] h 0 0 := by
    intro t
    induction t with
    | zero =>
      intro p e1
      have e : p = 20 := by omega
      subst e
      have q : (20 ≤ 20) = True := eq_true (Nat.le_refl _)
      refine goX0_strong hF 20 ?_
      simp (disch := omega) only [wX0_strong_0, uX0_strong_0, wX0_strong_1, wX0_strong_2, wX0_strong_3, wX0_strong_4, uX0_strong_4, wX0_strong_5, wX0_strong_7, wX0_strong_10, wX0_strong_11, wX0_strong_12, wX0_strong_15, wX0_strong_16, wX0_strong_17, wX0_strong_20, wX0_strong_21, wX0_strong_22, wX0_strong_23, wX0_strong_26, wX0_strong_27, wX0_strong_28, wX0_strong_29, wX0_strong_32, wX0_strong_35, wX0_strong_36, amSI_1, amSI_2, amSI_3, amSI_s, amU_at, amIsR_ref, amIsR_null, amIsR_rf, amRf_some, amRf_none, amClr_int, amClr_ref, amClr_null, amClr_long, amClr_ra, amClr_rf, amFit_int, amFit_oref, amFit_aref, amFit_onull, amFit_anull, amOptSome, amOptNone, List.cons_append, List.nil_append, true_and, and_true, true_implies, not_true_eq_false, not_false_eq_true, false_implies, and_self, Nat.add_zero, Nat.zero_add, ne_eq, Prod.mk.injEq, amC01_0, amC01_1, amC01_nb, amNb0, amNb1, amTcpI_d, Nat.reduceLeDiff, Nat.reduceAdd, Nat.reduceSub, Nat.reduceEqDiff, Nat.le_refl, amN0le, hR.s, hR.r, amLeI, q]
      exact amRet.of (by decide) (by decide) hK
    | succ t ih =>
      intro p e1
      have q : (20 ≤ p) = False := eq_false (by omega)
      have nx := ih (p + 1) (by omega)
      have sp := (hs p (by omega)).1
      have sl := (hs p (by omega)).2
      refine goX0_strong hF 20 ?_
      simp (disch := omega) only [wX0_strong_0, uX0_strong_0, wX0_strong_1, wX0_strong_2, wX0_strong_3, wX0_strong_4, uX0_strong_4, wX0_strong_5, wX0_strong_7, wX0_strong_10, wX0_strong_11, wX0_strong_12, wX0_strong_15, wX0_strong_16, wX0_strong_17, wX0_strong_20, wX0_strong_21, wX0_strong_22, wX0_strong_23, wX0_strong_26, wX0_strong_27, wX0_strong_28, wX0_strong_29, wX0_strong_32, wX0_strong_35, wX0_strong_36, amSI_1, amSI_2, amSI_3, amSI_s, amU_at, amIsR_ref, amIsR_null, amIsR_rf, amRf_some, amRf_none, amClr_int, amClr_ref, amClr_null, amClr_long, amClr_ra, amClr_rf, amFit_int, amFit_oref, amFit_aref, amFit_onull, amFit_anull, amOptSome, amOptNone, List.cons_append, List.nil_append, true_and, and_true, true_implies, not_true_eq_false, not_false_eq_true, false_implies, and_self, Nat.add_zero, Nat.zero_add, ne_eq, Prod.mk.injEq, amC01_0, amC01_1, amC01_nb, amNb0, amNb1, amTcpI_d, Nat.reduceLeDiff, Nat.reduceAdd, Nat.reduceSub, Nat.reduceEqDiff, Nat.le_refl, amN0le, hR.s, hR.r, amLeI, amLtI, amEqI, amLe0, amGt0, amEq0, amNotPosI, amGe0, amVI, amCl_nI, amAdd, amSub, amMul, q, sp, nx_p2, nx_or]
      rw [bitsOf] at nx
      refine ⟨fun r => ?_, fun r => ?_⟩
      · rw [if_neg (by simp [r])] at nx
        exact nx
      · rw [if_pos (by simp; omega)] at nx
        exact nx
  refine goX0_strong hF 20 ?_
  simp (disch := omega) only [wX0_strong_0, uX0_strong_0, wX0_strong_1, wX0_strong_2, wX0_strong_3, wX0_strong_4, uX0_strong_4, wX0_strong_5, wX0_strong_7, wX0_strong_10, wX0_strong_11, wX0_strong_12, wX0_strong_15, wX0_strong_16, wX0_strong_17, wX0_strong_20, wX0_strong_21, wX0_strong_22, wX0_strong_23, wX0_strong_26, wX0_strong_27, wX0_strong_28, wX0_strong_29, wX0_strong_32, wX0_strong_35, wX0_strong_36, amSI_1, amSI_2, amSI_3, amSI_s, amU_at, amIsR_ref, amIsR_null, amIsR_rf, amRf_some, amRf_none, amClr_int, amClr_ref, amClr_null, amClr_long, amClr_ra, amClr_rf, amFit_int, amFit_oref, amFit_aref, amFit_onull, amFit_anull, amOptSome, amOptNone, List.cons_append, List.nil_append, true_and, and_true, true_implies, not_true_eq_false, not_false_eq_true, false_implies, and_self, Nat.add_zero, Nat.zero_add, ne_eq, Prod.mk.injEq, amC01_0, amC01_1, amC01_nb, amNb0, amNb1, amTcpI_d, Nat.reduceLeDiff, Nat.reduceAdd, Nat.reduceSub, Nat.reduceEqDiff, Nat.le_refl, amN0le, hR.s, hR.r]
  exact loop 20 0 (by omega)
theorem tX0_strong_d {a : Nat} {h : amH} {K : Option Value → amH → Prop} : tX0_strong [.ref a] h K = ∃ s : Nat → Nat, a = (24 : Nat) ∧ rsAt h ∧ (∀ w : Nat, w < 20 → h.2.1 31 w = nI (s w) ∧ s w < 128) ∧ K (some (.int (nI (bitsOf (fun w => decide (0 < s w)) 20)))) h := rfl
/-- a rule asked: one of three lambdas -/
def tRule : amT := fun as h K => match as with
  | [.ref r, .int x] => (h.1 r = (20, 1) ∧ ∃ a, h.2.2.2.1 r 0 = some a ∧ tX0_lambda_new_0 [.ref a, .int x] h K) ∨ (h.1 r = (21, 1) ∧ ∃ a, h.2.2.2.1 r 0 = some a ∧ tX0_lambda_new_1 [.ref a, .int x] h K) ∨ (h.1 r = (22, 1) ∧ ∃ a, h.2.2.2.1 r 0 = some a ∧ tX0_lambda_new_2 [.ref a, .int x] h K)
  | _ => False
theorem tRule_0 {r : Nat} {x : Int32} {h : amH} {K : Option Value → amH → Prop} (hR : rsAt h) (h1 : h.1 r = (20, 1)) (h2 : h.2.2.2.1 r 0 = some 24) : tRule [.ref r, .int x] h K = K (some (.int (h.2.1 25 4))) h := by
  apply propext
  refine ⟨fun q => ?_, fun q => Or.inl ⟨h1, _, h2, rfl, hR, q⟩⟩
  rcases q with ⟨_, a, _, _, _, q⟩ | ⟨q, _⟩ | ⟨q, _⟩
  · exact q
  · rw [h1] at q; cases q
  · rw [h1] at q; cases q
theorem tRule_1 {r : Nat} {x : Int32} {h : amH} {K : Option Value → amH → Prop} (hR : rsAt h) (h1 : h.1 r = (21, 1)) (h2 : h.2.2.2.1 r 0 = some 24) : tRule [.ref r, .int x] h K = K (some (.int (x * h.2.1 25 4))) h := by
  apply propext
  refine ⟨fun q => ?_, fun q => Or.inr (Or.inl ⟨h1, _, h2, rfl, hR, q⟩)⟩
  rcases q with ⟨q, _⟩ | ⟨_, a, _, _, _, q⟩ | ⟨q, _⟩
  · rw [h1] at q; cases q
  · exact q
  · rw [h1] at q; cases q
theorem tRule_2 {r : Nat} {x : Int32} {h : amH} {K : Option Value → amH → Prop} (hR : rsAt h) (h1 : h.1 r = (22, 1)) (h2 : h.2.2.2.1 r 0 = some 24) : tRule [.ref r, .int x] h K = K (some (.int (h.2.1 25 4 <<< ((x - nI 1) &&& 31)))) h := by
  apply propext
  refine ⟨fun q => ?_, fun q => Or.inr (Or.inr ⟨h1, _, h2, rfl, hR, q⟩)⟩
  rcases q with ⟨q, _⟩ | ⟨q, _⟩ | ⟨_, a, _, _, _, q⟩
  · rw [h1] at q; cases q
  · rw [h1] at q; cases q
  · exact q
theorem tRule_r0 {x : Int32} {h : amH} {K : Option Value → amH → Prop} (hR : rsAt h) : tRule [.ref 121, .int x] h K = K (some (.int (h.2.1 25 4))) h := tRule_0 hR (by simp only [hR.s]) (by simp only [hR.r])
theorem tRule_r1 {x : Int32} {h : amH} {K : Option Value → amH → Prop} (hR : rsAt h) : tRule [.ref 122, .int x] h K = K (some (.int (x * h.2.1 25 4))) h := tRule_1 hR (by simp only [hR.s]) (by simp only [hR.r])
theorem tRule_r2 {x : Int32} {h : amH} {K : Option Value → amH → Prop} (hR : rsAt h) : tRule [.ref 123, .int x] h K = K (some (.int (h.2.1 25 4 <<< ((x - nI 1) &&& 31)))) h := tRule_2 hR (by simp only [hR.s]) (by simp only [hR.r])
/-- OPEN: the call through a lambda's object -/
theorem amSiteRule {G : amG} {l : Launch} {nm : String} {R : Room} {dR mcR msR : Nat} (hRm : R = amRm dR mcR msR) (hd : 3 ≤ dR) : amSite G l "ReadingStages" nm R (.invokeinterface 115 2) 5 2 0 0 tRule := sorry
