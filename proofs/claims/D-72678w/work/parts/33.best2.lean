/-! best -/
set_option maxRecDepth 100000
theorem rem6 : ∀ j, j < 6 → nI j - nI j / nI 3 * nI 3 = nI (j % 3) := by decide +kernel
def bestV (B : Nat × Nat × List Nat) (w : Nat) : Nat := if w = 0 then numL B.2.2 else if w = 1 then B.1 else B.2.1
def bestA (S : HS) (x : Int32) : Int32 := if (lN 0 ≤ x.toInt64 ∧ x.toInt64 ≤ lN 5) then (if x.toNatClampNeg < 3 then nI (bestV S.best x.toNatClampNeg) else nI (bestV S.grown (x.toNatClampNeg % 3))) else -1
def tX0_best : amT := fun as h K => match as with
  | [.ref a, .int x] => ∃ S : HS, a = (24 : Nat) ∧ askPre h S ∧ srcP S ∧ ∀ h', pFr h h' → K (some (.int (bestA S x))) h'
  | _ => False
/-! ReadingStages.best(I)I -/
def kX0_best : Nat → Bool := fun pc => pc == 23 || pc == 30
def rX0_best : List (Nat × amS) := [(3, 0, 0, 0, amTcon (.long (5))), (6, 3, 0, 0, tX0_isIn), (20, 1, 1, 1, (amRecv 0 tX0_layBest)), (27, 1, 0, 0, (amRecv 0 tX0_layGrown)), (37, 1, 0, 0, amTget 0 9), (40, 1, 0, 0, (amRecv 2 tX7_number)), (54, 1, 0, 0, amTget 0 10), (61, 1, 0, 0, amTget 0 11)]
def eX0_best (ret : Option Value → amH → Nat → Nat → Prop) (F : amX) : Nat → amX := amWp cX0_best kX0_best (amLk rX0_best) (some .int) 1 1 ret F
def sX0_best (ret : Option Value → amH → Nat → Nat → Prop) (F : amX) : Nat → amX := amWs cX0_best kX0_best (amLk rX0_best) (some .int) 1 1 ret F
theorem wX0_best_0 {ret F n h k z} {v0 st x} : eX0_best ret F (n + 1) 0 [v0, .int x] (st) h k z = (eX0_best ret F n 1 [v0, .int x] (.int x :: st) h k z) := (amWp_dec rfl dX0_best_0 rfl).trans rfl
theorem uX0_best_0 {ret F n h k z} {v0 st x} : sX0_best ret F n 0 [v0, .int x] (st) h k z = (eX0_best ret F n 1 [v0, .int x] (.int x :: st) h k z) := (amWs_dec dX0_best_0 rfl).trans rfl
theorem wX0_best_1 {ret F n h k z} {v0 v1 st x} : eX0_best ret F (n + 1) 1 [v0, v1] (.int x :: st) h k z = (eX0_best ret F n 2 [v0, v1] (.long x.toInt64 :: st) h k z) := (amWp_dec rfl dX0_best_1 rfl).trans rfl
theorem wX0_best_2 {ret F n h k z} {v0 v1 st} : eX0_best ret F (n + 1) 2 [v0, v1] (st) h k z = (eX0_best ret F n 3 [v0, v1] (.long (lN 0) :: st) h k z) := (amWp_dec rfl dX0_best_2 rfl).trans rfl
theorem wX0_best_3 {ret F n h k z} {v0 v1 r0 r1} : eX0_best ret F (n + 1) 3 [v0, v1] (r0 :: r1 :: []) h k z = (k + 0 ≤ 1 ∧ z + 0 ≤ 1 ∧ eX0_best ret F n 6 [v0, v1] (.long (lN 5) :: r0 :: r1 :: []) h (k + 0) (z + 0)) := (amWp_dec rfl dX0_best_3 rfl).trans (amS2 (Nat.le_of_ble_eq_true rfl) (Nat.le_of_ble_eq_true rfl))
theorem wX0_best_6 {ret F n h k z} {v0 v1 x2 x1 x0} : eX0_best ret F (n + 1) 6 [v0, v1] (.long x2 :: .long x1 :: .long x0 :: []) h k z = (k + 0 ≤ 1 ∧ z + 0 ≤ 1 ∧ tX0_isIn [.long x0, .long x1, .long x2] h (fun v h => eX0_best ret F n 9 [v0, v1] (v.toList ++ ([])) h (k + 0) (z + 0))) := (amWp_dec rfl dX0_best_6 rfl).trans (amS2 (Nat.le_of_ble_eq_true rfl) (Nat.le_of_ble_eq_true rfl))
theorem wX0_best_9 {ret F n h k z} {v0 v1 st x} : eX0_best ret F (n + 1) 9 [v0, v1] (.int x :: st) h k z = ((¬ x = 0 → eX0_best ret F n 14 [v0, v1] (st) h k z) ∧ (x = 0 → eX0_best ret F n 12 [v0, v1] (st) h k z)) := (amWp_dec rfl dX0_best_9 rfl).trans rfl
theorem wX0_best_12 {ret F n h k z} {v0 v1 st} : eX0_best ret F (n + 1) 12 [v0, v1] (st) h k z = (eX0_best ret F n 13 [v0, v1] (.int (-1) :: st) h k z) := (amWp_dec rfl dX0_best_12 rfl).trans rfl
theorem wX0_best_13 {ret F n h k z} {v0 v1 x} : eX0_best ret F (n + 1) 13 [v0, v1] ([.int x]) h k z = (ret (some (.int x)) h k z) := (amWp_dec rfl dX0_best_13 rfl).trans (amTrue ⟨_, rfl, rfl⟩)
theorem wX0_best_14 {ret F n h k z} {v0 st x} : eX0_best ret F (n + 1) 14 [v0, .int x] (st) h k z = (eX0_best ret F n 15 [v0, .int x] (.int x :: st) h k z) := (amWp_dec rfl dX0_best_14 rfl).trans rfl
theorem wX0_best_15 {ret F n h k z} {v0 v1 st} : eX0_best ret F (n + 1) 15 [v0, v1] (st) h k z = (eX0_best ret F n 16 [v0, v1] (.int (nI 3) :: st) h k z) := (amWp_dec rfl dX0_best_15 rfl).trans rfl
theorem wX0_best_16 {ret F n h k z} {v0 v1 st y x} : eX0_best ret F (n + 1) 16 [v0, v1] (.int y :: .int x :: st) h k z = ((y ≤ x → eX0_best ret F n 26 [v0, v1] (st) h k z) ∧ (¬ y ≤ x → eX0_best ret F n 19 [v0, v1] (st) h k z)) := (amWp_dec rfl dX0_best_16 rfl).trans rfl
theorem wX0_best_19 {ret F n h k z} {v0 v1 st} : eX0_best ret F (n + 1) 19 [v0, v1] (st) h k z = (amIsR v0 ∧ eX0_best ret F n 20 [v0, v1] (v0 :: st) h k z) := (amWp_dec rfl dX0_best_19 rfl).trans rfl
theorem wX0_best_20 {ret F n h k z} {v0 v1 x0} : eX0_best ret F (n + 1) 20 [v0, v1] (.ref x0 :: []) h k z = (k + 1 ≤ 1 ∧ z + 1 ≤ 1 ∧ h.1 x0 = (0, 0) ∧ tX0_layBest [.ref x0] h (fun v h => eX0_best ret F n 23 [v0, v1] (v.toList ++ ([])) h (k + 1) (z + 1))) := (amWp_dec rfl dX0_best_20 rfl).trans (amS2 (Nat.le_of_ble_eq_true rfl) (Nat.le_of_ble_eq_true rfl))
theorem wX0_best_23 {ret F n ls st h k z} : eX0_best ret F (n + 1) 23 ls st h k z = F 23 ls st h k z := amWp_cut rfl
theorem uX0_best_23 {ret F n h k z} {v0 v1 st} : sX0_best ret F n 23 [v0, v1] (st) h k z = (eX0_best ret F n 30 [v0, v1] (st) h k z) := (amWs_dec dX0_best_23 rfl).trans rfl
theorem wX0_best_26 {ret F n h k z} {v0 v1 st} : eX0_best ret F (n + 1) 26 [v0, v1] (st) h k z = (amIsR v0 ∧ eX0_best ret F n 27 [v0, v1] (v0 :: st) h k z) := (amWp_dec rfl dX0_best_26 rfl).trans rfl
theorem wX0_best_27 {ret F n h k z} {v0 v1 x0} : eX0_best ret F (n + 1) 27 [v0, v1] (.ref x0 :: []) h k z = (k + 0 ≤ 1 ∧ z + 0 ≤ 1 ∧ h.1 x0 = (0, 0) ∧ tX0_layGrown [.ref x0] h (fun v h => eX0_best ret F n 30 [v0, v1] (v.toList ++ ([])) h (k + 0) (z + 0))) := (amWp_dec rfl dX0_best_27 rfl).trans (amS2 (Nat.le_of_ble_eq_true rfl) (Nat.le_of_ble_eq_true rfl))
theorem wX0_best_30 {ret F n ls st h k z} : eX0_best ret F (n + 1) 30 ls st h k z = F 30 ls st h k z := amWp_cut rfl
theorem uX0_best_30 {ret F n h k z} {v0 st x} : sX0_best ret F n 30 [v0, .int x] (st) h k z = (eX0_best ret F n 31 [v0, .int x] (.int x :: st) h k z) := (amWs_dec dX0_best_30 rfl).trans rfl
theorem wX0_best_31 {ret F n h k z} {v0 v1 st} : eX0_best ret F (n + 1) 31 [v0, v1] (st) h k z = (eX0_best ret F n 32 [v0, v1] (.int (nI 3) :: st) h k z) := (amWp_dec rfl dX0_best_31 rfl).trans rfl
theorem wX0_best_32 {ret F n h k z} {v0 v1 st y x} : eX0_best ret F (n + 1) 32 [v0, v1] (.int y :: .int x :: st) h k z = (¬ y = 0 ∧ eX0_best ret F n 33 [v0, v1] (.int (x - x / y * y) :: st) h k z) := (amWp_dec rfl dX0_best_32 rfl).trans rfl
theorem wX0_best_33 {ret F n h k z} {v0 v1 st x} : eX0_best ret F (n + 1) 33 [v0, v1] (.int x :: st) h k z = ((¬ x = 0 → eX0_best ret F n 46 [v0, v1] (st) h k z) ∧ (x = 0 → eX0_best ret F n 36 [v0, v1] (st) h k z)) := (amWp_dec rfl dX0_best_33 rfl).trans rfl
theorem wX0_best_36 {ret F n h k z} {v0 v1 st} : eX0_best ret F (n + 1) 36 [v0, v1] (st) h k z = (amIsR v0 ∧ eX0_best ret F n 37 [v0, v1] (v0 :: st) h k z) := (amWp_dec rfl dX0_best_36 rfl).trans rfl
theorem wX0_best_37 {ret F n h k z} {v0 v1 a} : eX0_best ret F (n + 1) 37 [v0, v1] (.ref a :: []) h k z = (k + 0 ≤ 1 ∧ z + 0 ≤ 1 ∧ h.1 a = (0, 0) ∧ eX0_best ret F n 40 [v0, v1] (va_rf (h.2.2.2.1 a 9) :: []) h (k + 0) (z + 0)) := (amWp_dec rfl dX0_best_37 rfl).trans (amS2 (Nat.le_of_ble_eq_true rfl) (Nat.le_of_ble_eq_true rfl))
theorem wX0_best_40 {ret F n h k z} {v0 v1 x0} : eX0_best ret F (n + 1) 40 [v0, v1] (.ref x0 :: []) h k z = (k + 0 ≤ 1 ∧ z + 0 ≤ 1 ∧ h.1 x0 = (0, 2) ∧ tX7_number [.ref x0] h (fun v h => eX0_best ret F n 43 [v0, v1] (v.toList ++ ([])) h (k + 0) (z + 0))) := (amWp_dec rfl dX0_best_40 rfl).trans (amS2 (Nat.le_of_ble_eq_true rfl) (Nat.le_of_ble_eq_true rfl))
theorem wX0_best_43 {ret F n h k z} {v0 v1 st} : eX0_best ret F (n + 1) 43 [v0, v1] (st) h k z = (eX0_best ret F n 64 [v0, v1] (st) h k z) := (amWp_dec rfl dX0_best_43 rfl).trans rfl
theorem wX0_best_46 {ret F n h k z} {v0 st x} : eX0_best ret F (n + 1) 46 [v0, .int x] (st) h k z = (eX0_best ret F n 47 [v0, .int x] (.int x :: st) h k z) := (amWp_dec rfl dX0_best_46 rfl).trans rfl
theorem wX0_best_47 {ret F n h k z} {v0 v1 st} : eX0_best ret F (n + 1) 47 [v0, v1] (st) h k z = (eX0_best ret F n 48 [v0, v1] (.int (nI 3) :: st) h k z) := (amWp_dec rfl dX0_best_47 rfl).trans rfl
theorem wX0_best_48 {ret F n h k z} {v0 v1 st y x} : eX0_best ret F (n + 1) 48 [v0, v1] (.int y :: .int x :: st) h k z = (¬ y = 0 ∧ eX0_best ret F n 49 [v0, v1] (.int (x - x / y * y) :: st) h k z) := (amWp_dec rfl dX0_best_48 rfl).trans rfl
theorem wX0_best_49 {ret F n h k z} {v0 v1 st} : eX0_best ret F (n + 1) 49 [v0, v1] (st) h k z = (eX0_best ret F n 50 [v0, v1] (.int (nI 1) :: st) h k z) := (amWp_dec rfl dX0_best_49 rfl).trans rfl
theorem wX0_best_50 {ret F n h k z} {v0 v1 st y x} : eX0_best ret F (n + 1) 50 [v0, v1] (.int y :: .int x :: st) h k z = ((¬ x = y → eX0_best ret F n 60 [v0, v1] (st) h k z) ∧ (x = y → eX0_best ret F n 53 [v0, v1] (st) h k z)) := (amWp_dec rfl dX0_best_50 rfl).trans rfl
theorem wX0_best_53 {ret F n h k z} {v0 v1 st} : eX0_best ret F (n + 1) 53 [v0, v1] (st) h k z = (amIsR v0 ∧ eX0_best ret F n 54 [v0, v1] (v0 :: st) h k z) := (amWp_dec rfl dX0_best_53 rfl).trans rfl
theorem wX0_best_54 {ret F n h k z} {v0 v1 a} : eX0_best ret F (n + 1) 54 [v0, v1] (.ref a :: []) h k z = (k + 0 ≤ 1 ∧ z + 0 ≤ 1 ∧ h.1 a = (0, 0) ∧ eX0_best ret F n 57 [v0, v1] (.int (h.2.1 a 10) :: []) h (k + 0) (z + 0)) := (amWp_dec rfl dX0_best_54 rfl).trans (amS2 (Nat.le_of_ble_eq_true rfl) (Nat.le_of_ble_eq_true rfl))
theorem wX0_best_57 {ret F n h k z} {v0 v1 st} : eX0_best ret F (n + 1) 57 [v0, v1] (st) h k z = (eX0_best ret F n 64 [v0, v1] (st) h k z) := (amWp_dec rfl dX0_best_57 rfl).trans rfl
theorem wX0_best_60 {ret F n h k z} {v0 v1 st} : eX0_best ret F (n + 1) 60 [v0, v1] (st) h k z = (amIsR v0 ∧ eX0_best ret F n 61 [v0, v1] (v0 :: st) h k z) := (amWp_dec rfl dX0_best_60 rfl).trans rfl
theorem wX0_best_61 {ret F n h k z} {v0 v1 a} : eX0_best ret F (n + 1) 61 [v0, v1] (.ref a :: []) h k z = (k + 0 ≤ 1 ∧ z + 0 ≤ 1 ∧ h.1 a = (0, 0) ∧ eX0_best ret F n 64 [v0, v1] (.int (h.2.1 a 11) :: []) h (k + 0) (z + 0)) := (amWp_dec rfl dX0_best_61 rfl).trans (amS2 (Nat.le_of_ble_eq_true rfl) (Nat.le_of_ble_eq_true rfl))
theorem wX0_best_64 {ret F n h k z} {v0 v1 x} : eX0_best ret F (n + 1) 64 [v0, v1] ([.int x]) h k z = (ret (some (.int x)) h k z) := (amWp_dec rfl dX0_best_64 rfl).trans (amTrue ⟨_, rfl, rfl⟩)
theorem evX0_best (l : Launch) (G : amG) : ∀ pc S i sz, amLk rX0_best pc = some S → decode cX0_best pc = .ok (i, sz) → amSiteP pc G l yX0_best.cls yX0_best.name yX0_best.desc (amRm 22 1 1) i sz S.1 S.2.1 S.2.2.1 S.2.2.2 := amLk_ok (by
  refine List.forall_mem_cons.mpr ⟨⟨_, _, dX0_best_3, amSite.P (amSiteLdc2 q381)⟩, ?_⟩
  refine List.forall_mem_cons.mpr ⟨⟨_, _, dX0_best_6, amSite.P (amSiteS (metX0_isIn l G) rfl (by decide) (by decide) (lw_S q382 q383 q86 q384) ⟨by decide +kernel, by decide +kernel, by decide +kernel⟩)⟩, ?_⟩
  refine List.forall_mem_cons.mpr ⟨⟨_, _, dX0_best_20, amSite.P (amSiteV (C := RX0) (metX0_layBest l G) rfl (by decide) (by decide) (lw_V q385 q387 qs5 q86 q388) ⟨_, rfl, rfl⟩ ⟨rfl, by decide +kernel, by decide +kernel, by decide +kernel⟩)⟩, ?_⟩
  refine List.forall_mem_cons.mpr ⟨⟨_, _, dX0_best_27, amSite.P (amSiteV (C := RX0) (metX0_layGrown l G) rfl (by decide) (by decide) (lw_V q498 q500 qs15 q86 q501) ⟨_, rfl, rfl⟩ ⟨rfl, by decide +kernel, by decide +kernel, by decide +kernel⟩)⟩, ?_⟩
  refine List.forall_mem_cons.mpr ⟨⟨_, _, dX0_best_37, amSite.P (amSiteGet ⟨_, rfl, by decide, Or.inl q310⟩)⟩, ?_⟩
  refine List.forall_mem_cons.mpr ⟨⟨_, _, dX0_best_40, amSite.P (amSiteD (C := RX2) (owner := "ReadingStages$Shelf") (x := ⟨"ReadingStages$Board", "number", "()I"⟩) (metX7_number l G) rfl (by decide) (by decide) q517 q99 q515 (List.mem_of_getElem? (i := 5) rfl) (List.mem_of_getElem? (i := 9) rfl) (List.mem_of_getElem? (i := 12) rfl) (List.mem_of_getElem? (i := 0) rfl) ⟨_, rfl, rfl⟩ ⟨by decide +kernel, by decide +kernel, by decide +kernel⟩)⟩, ?_⟩
  refine List.forall_mem_cons.mpr ⟨⟨_, _, dX0_best_54, amSite.P (amSiteGet ⟨_, rfl, by decide, Or.inl q311⟩)⟩, ?_⟩
  refine List.forall_mem_cons.mpr ⟨⟨_, _, dX0_best_61, amSite.P (amSiteGet ⟨_, rfl, by decide, Or.inl q312⟩)⟩, ?_⟩
  exact fun _ h => absurd h List.not_mem_nil)
theorem goX0_best {ret F} (hF : amCld cX0_best kX0_best (amLk rX0_best) (some .int) 1 1 ret F) (n : Nat) {pc ls st h k z} (q : sX0_best ret F n pc ls st h k z) : F pc ls st h k z := hF.1 n pc ls st h k z q
theorem metX0_best (l : Launch) (G : amG) : amMet l G yX0_best (ws_ yX0_best cX0_best 2 (some .int)) 22 1 1 tX0_best := by
  refine amMet_of (cut := kX0_best) (by decide +kernel) (evX0_best l G) ?_
  intro as h K hT
  match as, hT with
  | [.ref a, .int x], ⟨S, e1, hA, hsrc, hK⟩ =>
  refine ⟨Nat.le_of_ble_eq_true rfl, fun F hF => ?_⟩
  show F 0 [.ref a, .int x] [] h 0 0
  obtain ⟨a, rfl⟩ : ∃ i : Nat, i = a := ⟨_, rfl⟩
  subst e1
  have hR := hA.1
  by_cases hx : lN 0 ≤ x.toInt64 ∧ x.toInt64 ≤ lN 5
  · obtain ⟨j, -, j5, rfl⟩ := (amInL (by decide) (by decide)).mp hx
    have ec : (nI j).toNatClampNeg = j := amCl_nI (by omega)
    have ans : bestA S (nI j) = nI (bestV (if j < 3 then S.best else S.grown) (j % 3)) := by
      rw [bestA, if_pos hx, ec]
      by_cases q : j < 3
      · rw [if_pos q, if_pos q, Nat.mod_eq_of_lt q]
      · rw [if_neg q, if_neg q]
    rw [ans] at hK
    have r6 := rem6 j (by omega)
    have n3 : (nI 3 = 0) = False := by decide
    have fin : ∀ h' k z, k ≤ 1 → z ≤ 1 → pFr h h' → bestIs h'.2.1 (if j < 3 then S.best else S.grown) → F 30 [.ref 24, .int (nI j)] [] h' k z := by
      intro h' k z hk hz q1 q2
      have hR := q1.1
      have key := hK h' q1
      generalize (if j < 3 then S.best else S.grown) = B at q2 key
      obtain ⟨f1, f2, f3, f4, f5⟩ := q2
      have m3 : j % 3 < 3 := Nat.mod_lt _ (by decide)
      refine goX0_best hF 60 ?_
      simp (disch := omega) only [wX0_best_0, uX0_best_0, wX0_best_1, wX0_best_2, wX0_best_3, wX0_best_6, wX0_best_9, wX0_best_12, wX0_best_13, wX0_best_14, wX0_best_15, wX0_best_16, wX0_best_19, wX0_best_20, wX0_best_23, uX0_best_23, wX0_best_26, wX0_best_27, wX0_best_30, uX0_best_30, wX0_best_31, wX0_best_32, wX0_best_33, wX0_best_36, wX0_best_37, wX0_best_40, wX0_best_43, wX0_best_46, wX0_best_47, wX0_best_48, wX0_best_49, wX0_best_50, wX0_best_53, wX0_best_54, wX0_best_57, wX0_best_60, wX0_best_61, wX0_best_64, amSI_1, amSI_2, amSI_3, amSI_s, amU_at, amIsR_ref, amIsR_null, amIsR_rf, amRf_some, amRf_none, amClr_int, amClr_ref, amClr_null, amClr_long, amClr_ra, amClr_rf, amFit_int, amFit_oref, amFit_aref, amFit_onull, amFit_anull, amOptSome, amOptNone, List.cons_append, List.nil_append, true_and, and_true, true_implies, not_true_eq_false, not_false_eq_true, false_implies, and_self, Nat.add_zero, Nat.zero_add, ne_eq, Prod.mk.injEq, amC01_0, amC01_1, amC01_nb, amNb0, amNb1, amTcpI_d, Nat.reduceLeDiff, Nat.reduceAdd, Nat.reduceSub, Nat.reduceEqDiff, Nat.le_refl, amN0le, hR.s, hR.r, n3, r6, f1, f2, amEqI, amEq0, tX7_number_d]
      refine ⟨fun z0 => ⟨fun z1 => ⟨hk, hz, ?_⟩, fun z1 => ⟨hk, hz, ?_⟩⟩, fun z0 => ⟨hk, hz, hk, hz, B.2.2, hR.best, f5, ?_⟩⟩
      · rw [bestV, if_neg z0, if_neg z1] at key
        exact amRet.of hk hz key
      · rw [bestV, if_neg z0, if_pos z1] at key
        exact amRet.of hk hz key
      · rw [bestV, if_pos z0] at key
        exact amRet.of hk hz key
    refine goX0_best hF 60 ?_
    simp (disch := omega) only [wX0_best_0, uX0_best_0, wX0_best_1, wX0_best_2, wX0_best_3, wX0_best_6, wX0_best_9, wX0_best_12, wX0_best_13, wX0_best_14, wX0_best_15, wX0_best_16, wX0_best_19, wX0_best_20, wX0_best_23, uX0_best_23, wX0_best_26, wX0_best_27, wX0_best_30, uX0_best_30, wX0_best_31, wX0_best_32, wX0_best_33, wX0_best_36, wX0_best_37, wX0_best_40, wX0_best_43, wX0_best_46, wX0_best_47, wX0_best_48, wX0_best_49, wX0_best_50, wX0_best_53, wX0_best_54, wX0_best_57, wX0_best_60, wX0_best_61, wX0_best_64, amSI_1, amSI_2, amSI_3, amSI_s, amU_at, amIsR_ref, amIsR_null, amIsR_rf, amRf_some, amRf_none, amClr_int, amClr_ref, amClr_null, amClr_long, amClr_ra, amClr_rf, amFit_int, amFit_oref, amFit_aref, amFit_onull, amFit_anull, amOptSome, amOptNone, List.cons_append, List.nil_append, true_and, and_true, true_implies, not_true_eq_false, not_false_eq_true, false_implies, and_self, Nat.add_zero, Nat.zero_add, ne_eq, Prod.mk.injEq, amC01_0, amC01_1, amC01_nb, amNb0, amNb1, amTcpI_d, Nat.reduceLeDiff, Nat.reduceAdd, Nat.reduceSub, Nat.reduceEqDiff, Nat.le_refl, amN0le, hR.s, hR.r, amLeI, amLtI, amEqI, amLe0, amGt0, amEq0, amNotPosI, amGe0, amVI, amCl_nI, amAdd, amSub, amMul, tX0_isIn_d]
    refine ⟨fun _ => ⟨fun q => ?_, fun q => ?_⟩, fun z => absurd hx z⟩
    · rw [if_neg (by omega)] at fin
      rw [tX0_layGrown_d]
      refine ⟨S, rfl, hA, hsrc, fun m' q1 q2 => ?_⟩
      exact fin (amSI h m') _ _ (by decide) (by decide) q1 q2
    · rw [if_pos (by omega)] at fin
      rw [tX0_layBest_d]
      refine ⟨S, rfl, hA, fun h' q1 q2 => ?_⟩
      have hR2 := q1.1
      refine goX0_best hF 60 ?_
      simp (disch := omega) only [wX0_best_0, uX0_best_0, wX0_best_1, wX0_best_2, wX0_best_3, wX0_best_6, wX0_best_9, wX0_best_12, wX0_best_13, wX0_best_14, wX0_best_15, wX0_best_16, wX0_best_19, wX0_best_20, wX0_best_23, uX0_best_23, wX0_best_26, wX0_best_27, wX0_best_30, uX0_best_30, wX0_best_31, wX0_best_32, wX0_best_33, wX0_best_36, wX0_best_37, wX0_best_40, wX0_best_43, wX0_best_46, wX0_best_47, wX0_best_48, wX0_best_49, wX0_best_50, wX0_best_53, wX0_best_54, wX0_best_57, wX0_best_60, wX0_best_61, wX0_best_64, amSI_1, amSI_2, amSI_3, amSI_s, amU_at, amIsR_ref, amIsR_null, amIsR_rf, amRf_some, amRf_none, amClr_int, amClr_ref, amClr_null, amClr_long, amClr_ra, amClr_rf, amFit_int, amFit_oref, amFit_aref, amFit_onull, amFit_anull, amOptSome, amOptNone, List.cons_append, List.nil_append, true_and, and_true, true_implies, not_true_eq_false, not_false_eq_true, false_implies, and_self, Nat.add_zero, Nat.zero_add, ne_eq, Prod.mk.injEq, amC01_0, amC01_1, amC01_nb, amNb0, amNb1, amTcpI_d, Nat.reduceLeDiff, Nat.reduceAdd, Nat.reduceSub, Nat.reduceEqDiff, Nat.le_refl, amN0le, hR.s, hR.r]
      exact fin h' _ _ (by decide) (by decide) q1 q2
  · have e : bestA S x = -1 := if_neg hx
    have := hK h (pFr.rf hR)
    rw [e] at this
    refine goX0_best hF 60 ?_
    simp (disch := omega) only [wX0_best_0, uX0_best_0, wX0_best_1, wX0_best_2, wX0_best_3, wX0_best_6, wX0_best_9, wX0_best_12, wX0_best_13, wX0_best_14, wX0_best_15, wX0_best_16, wX0_best_19, wX0_best_20, wX0_best_23, uX0_best_23, wX0_best_26, wX0_best_27, wX0_best_30, uX0_best_30, wX0_best_31, wX0_best_32, wX0_best_33, wX0_best_36, wX0_best_37, wX0_best_40, wX0_best_43, wX0_best_46, wX0_best_47, wX0_best_48, wX0_best_49, wX0_best_50, wX0_best_53, wX0_best_54, wX0_best_57, wX0_best_60, wX0_best_61, wX0_best_64, amSI_1, amSI_2, amSI_3, amSI_s, amU_at, amIsR_ref, amIsR_null, amIsR_rf, amRf_some, amRf_none, amClr_int, amClr_ref, amClr_null, amClr_long, amClr_ra, amClr_rf, amFit_int, amFit_oref, amFit_aref, amFit_onull, amFit_anull, amOptSome, amOptNone, List.cons_append, List.nil_append, true_and, and_true, true_implies, not_true_eq_false, not_false_eq_true, false_implies, and_self, Nat.add_zero, Nat.zero_add, ne_eq, Prod.mk.injEq, amC01_0, amC01_1, amC01_nb, amNb0, amNb1, amTcpI_d, Nat.reduceLeDiff, Nat.reduceAdd, Nat.reduceSub, Nat.reduceEqDiff, Nat.le_refl, amN0le, hR.s, hR.r, tX0_isIn_d]
    exact ⟨fun z => absurd hx z, fun _ => amRet.of (by decide) (by decide) this⟩
theorem tX0_best_d {a : Nat} {x : Int32} {h : amH} {K : Option Value → amH → Prop} : tX0_best [.ref a, .int x] h K = ∃ S : HS, a = (24 : Nat) ∧ askPre h S ∧ srcP S ∧ ∀ h', pFr h h' → K (some (.int (bestA S x))) h' := rfl
