/-! acts: tell; a draw -/
set_option maxRecDepth 100000
abbrev mayP (w v : Int32) : Prop := (w = nI 0 ∧ (lN 1 ≤ v.toInt64 ∧ v.toInt64 ≤ lN 4)) ∨ (w = nI 1 ∧ (lN 0 ≤ v.toInt64 ∧ v.toInt64 ≤ lN 20)) ∨ (w = nI 2 ∧ (lN 0 ≤ v.toInt64 ∧ v.toInt64 ≤ lN 2))
def tX0_mayBe : amT := fun as h K => match as with
  | [.int w, .int v] => K (some (.int (amC01 (mayP w v)))) h
  | _ => False
/-! ReadingStages.mayBe(II)Z -/
def kX0_mayBe : Nat → Bool := fun pc => pc == 55
def rX0_mayBe : List (Nat × amS) := [(7, 0, 0, 0, amTcon (.long (4))), (10, 3, 0, 0, tX0_isIn), (24, 0, 0, 0, amTcon (.long (20))), (27, 3, 0, 0, tX0_isIn), (41, 0, 0, 0, amTcon (.long (2))), (44, 3, 0, 0, tX0_isIn)]
def eX0_mayBe (ret : Option Value → amH → Nat → Nat → Prop) (F : amX) : Nat → amX := amWp cX0_mayBe kX0_mayBe (amLk rX0_mayBe) (some .boolean) 0 0 ret F
def sX0_mayBe (ret : Option Value → amH → Nat → Nat → Prop) (F : amX) : Nat → amX := amWs cX0_mayBe kX0_mayBe (amLk rX0_mayBe) (some .boolean) 0 0 ret F
theorem wX0_mayBe_0 {ret F n h} {v1 st x} : eX0_mayBe ret F (n + 1) 0 [.int x, v1] (st) h 0 0 = (eX0_mayBe ret F n 1 [.int x, v1] (.int x :: st) h 0 0) := (amWp_dec rfl dX0_mayBe_0 rfl).trans rfl
theorem uX0_mayBe_0 {ret F n h} {v1 st x} : sX0_mayBe ret F n 0 [.int x, v1] (st) h 0 0 = (eX0_mayBe ret F n 1 [.int x, v1] (.int x :: st) h 0 0) := (amWs_dec dX0_mayBe_0 rfl).trans rfl
theorem wX0_mayBe_1 {ret F n h} {v0 v1 st x} : eX0_mayBe ret F (n + 1) 1 [v0, v1] (.int x :: st) h 0 0 = ((¬ x = 0 → eX0_mayBe ret F n 16 [v0, v1] (st) h 0 0) ∧ (x = 0 → eX0_mayBe ret F n 4 [v0, v1] (st) h 0 0)) := (amWp_dec rfl dX0_mayBe_1 rfl).trans rfl
theorem wX0_mayBe_4 {ret F n h} {v0 st x} : eX0_mayBe ret F (n + 1) 4 [v0, .int x] (st) h 0 0 = (eX0_mayBe ret F n 5 [v0, .int x] (.int x :: st) h 0 0) := (amWp_dec rfl dX0_mayBe_4 rfl).trans rfl
theorem wX0_mayBe_5 {ret F n h} {v0 v1 st x} : eX0_mayBe ret F (n + 1) 5 [v0, v1] (.int x :: st) h 0 0 = (eX0_mayBe ret F n 6 [v0, v1] (.long x.toInt64 :: st) h 0 0) := (amWp_dec rfl dX0_mayBe_5 rfl).trans rfl
theorem wX0_mayBe_6 {ret F n h} {v0 v1 st} : eX0_mayBe ret F (n + 1) 6 [v0, v1] (st) h 0 0 = (eX0_mayBe ret F n 7 [v0, v1] (.long (lN 1) :: st) h 0 0) := (amWp_dec rfl dX0_mayBe_6 rfl).trans rfl
theorem wX0_mayBe_7 {ret F n h} {v0 v1 r0 r1} : eX0_mayBe ret F (n + 1) 7 [v0, v1] (r0 :: r1 :: []) h 0 0 = (eX0_mayBe ret F n 10 [v0, v1] (.long (lN 4) :: r0 :: r1 :: []) h 0 0) := (amWp_dec rfl dX0_mayBe_7 rfl).trans (amS4 (Nat.le_of_ble_eq_true rfl) (Nat.le_of_ble_eq_true rfl) (Nat.le_of_ble_eq_true rfl) (Nat.le_of_ble_eq_true rfl))
theorem wX0_mayBe_10 {ret F n h} {v0 v1 x2 x1 x0} : eX0_mayBe ret F (n + 1) 10 [v0, v1] (.long x2 :: .long x1 :: .long x0 :: []) h 0 0 = (tX0_isIn [.long x0, .long x1, .long x2] h (fun v h => eX0_mayBe ret F n 13 [v0, v1] (v.toList ++ ([])) h 0 0)) := (amWp_dec rfl dX0_mayBe_10 rfl).trans (amS4 (Nat.le_of_ble_eq_true rfl) (Nat.le_of_ble_eq_true rfl) (Nat.le_of_ble_eq_true rfl) (Nat.le_of_ble_eq_true rfl))
theorem wX0_mayBe_13 {ret F n h} {v0 v1 st} : eX0_mayBe ret F (n + 1) 13 [v0, v1] (st) h 0 0 = (eX0_mayBe ret F n 55 [v0, v1] (st) h 0 0) := (amWp_dec rfl dX0_mayBe_13 rfl).trans rfl
theorem wX0_mayBe_16 {ret F n h} {v1 st x} : eX0_mayBe ret F (n + 1) 16 [.int x, v1] (st) h 0 0 = (eX0_mayBe ret F n 17 [.int x, v1] (.int x :: st) h 0 0) := (amWp_dec rfl dX0_mayBe_16 rfl).trans rfl
theorem wX0_mayBe_17 {ret F n h} {v0 v1 st} : eX0_mayBe ret F (n + 1) 17 [v0, v1] (st) h 0 0 = (eX0_mayBe ret F n 18 [v0, v1] (.int (nI 1) :: st) h 0 0) := (amWp_dec rfl dX0_mayBe_17 rfl).trans rfl
theorem wX0_mayBe_18 {ret F n h} {v0 v1 st y x} : eX0_mayBe ret F (n + 1) 18 [v0, v1] (.int y :: .int x :: st) h 0 0 = ((¬ x = y → eX0_mayBe ret F n 33 [v0, v1] (st) h 0 0) ∧ (x = y → eX0_mayBe ret F n 21 [v0, v1] (st) h 0 0)) := (amWp_dec rfl dX0_mayBe_18 rfl).trans rfl
theorem wX0_mayBe_21 {ret F n h} {v0 st x} : eX0_mayBe ret F (n + 1) 21 [v0, .int x] (st) h 0 0 = (eX0_mayBe ret F n 22 [v0, .int x] (.int x :: st) h 0 0) := (amWp_dec rfl dX0_mayBe_21 rfl).trans rfl
theorem wX0_mayBe_22 {ret F n h} {v0 v1 st x} : eX0_mayBe ret F (n + 1) 22 [v0, v1] (.int x :: st) h 0 0 = (eX0_mayBe ret F n 23 [v0, v1] (.long x.toInt64 :: st) h 0 0) := (amWp_dec rfl dX0_mayBe_22 rfl).trans rfl
theorem wX0_mayBe_23 {ret F n h} {v0 v1 st} : eX0_mayBe ret F (n + 1) 23 [v0, v1] (st) h 0 0 = (eX0_mayBe ret F n 24 [v0, v1] (.long (lN 0) :: st) h 0 0) := (amWp_dec rfl dX0_mayBe_23 rfl).trans rfl
theorem wX0_mayBe_24 {ret F n h} {v0 v1 r0 r1} : eX0_mayBe ret F (n + 1) 24 [v0, v1] (r0 :: r1 :: []) h 0 0 = (eX0_mayBe ret F n 27 [v0, v1] (.long (lN 20) :: r0 :: r1 :: []) h 0 0) := (amWp_dec rfl dX0_mayBe_24 rfl).trans (amS4 (Nat.le_of_ble_eq_true rfl) (Nat.le_of_ble_eq_true rfl) (Nat.le_of_ble_eq_true rfl) (Nat.le_of_ble_eq_true rfl))
theorem wX0_mayBe_27 {ret F n h} {v0 v1 x2 x1 x0} : eX0_mayBe ret F (n + 1) 27 [v0, v1] (.long x2 :: .long x1 :: .long x0 :: []) h 0 0 = (tX0_isIn [.long x0, .long x1, .long x2] h (fun v h => eX0_mayBe ret F n 30 [v0, v1] (v.toList ++ ([])) h 0 0)) := (amWp_dec rfl dX0_mayBe_27 rfl).trans (amS4 (Nat.le_of_ble_eq_true rfl) (Nat.le_of_ble_eq_true rfl) (Nat.le_of_ble_eq_true rfl) (Nat.le_of_ble_eq_true rfl))
theorem wX0_mayBe_30 {ret F n h} {v0 v1 st} : eX0_mayBe ret F (n + 1) 30 [v0, v1] (st) h 0 0 = (eX0_mayBe ret F n 55 [v0, v1] (st) h 0 0) := (amWp_dec rfl dX0_mayBe_30 rfl).trans rfl
theorem wX0_mayBe_33 {ret F n h} {v1 st x} : eX0_mayBe ret F (n + 1) 33 [.int x, v1] (st) h 0 0 = (eX0_mayBe ret F n 34 [.int x, v1] (.int x :: st) h 0 0) := (amWp_dec rfl dX0_mayBe_33 rfl).trans rfl
theorem wX0_mayBe_34 {ret F n h} {v0 v1 st} : eX0_mayBe ret F (n + 1) 34 [v0, v1] (st) h 0 0 = (eX0_mayBe ret F n 35 [v0, v1] (.int (nI 2) :: st) h 0 0) := (amWp_dec rfl dX0_mayBe_34 rfl).trans rfl
theorem wX0_mayBe_35 {ret F n h} {v0 v1 st y x} : eX0_mayBe ret F (n + 1) 35 [v0, v1] (.int y :: .int x :: st) h 0 0 = ((¬ x = y → eX0_mayBe ret F n 54 [v0, v1] (st) h 0 0) ∧ (x = y → eX0_mayBe ret F n 38 [v0, v1] (st) h 0 0)) := (amWp_dec rfl dX0_mayBe_35 rfl).trans rfl
theorem wX0_mayBe_38 {ret F n h} {v0 st x} : eX0_mayBe ret F (n + 1) 38 [v0, .int x] (st) h 0 0 = (eX0_mayBe ret F n 39 [v0, .int x] (.int x :: st) h 0 0) := (amWp_dec rfl dX0_mayBe_38 rfl).trans rfl
theorem wX0_mayBe_39 {ret F n h} {v0 v1 st x} : eX0_mayBe ret F (n + 1) 39 [v0, v1] (.int x :: st) h 0 0 = (eX0_mayBe ret F n 40 [v0, v1] (.long x.toInt64 :: st) h 0 0) := (amWp_dec rfl dX0_mayBe_39 rfl).trans rfl
theorem wX0_mayBe_40 {ret F n h} {v0 v1 st} : eX0_mayBe ret F (n + 1) 40 [v0, v1] (st) h 0 0 = (eX0_mayBe ret F n 41 [v0, v1] (.long (lN 0) :: st) h 0 0) := (amWp_dec rfl dX0_mayBe_40 rfl).trans rfl
theorem wX0_mayBe_41 {ret F n h} {v0 v1 r0 r1} : eX0_mayBe ret F (n + 1) 41 [v0, v1] (r0 :: r1 :: []) h 0 0 = (eX0_mayBe ret F n 44 [v0, v1] (.long (lN 2) :: r0 :: r1 :: []) h 0 0) := (amWp_dec rfl dX0_mayBe_41 rfl).trans (amS4 (Nat.le_of_ble_eq_true rfl) (Nat.le_of_ble_eq_true rfl) (Nat.le_of_ble_eq_true rfl) (Nat.le_of_ble_eq_true rfl))
theorem wX0_mayBe_44 {ret F n h} {v0 v1 x2 x1 x0} : eX0_mayBe ret F (n + 1) 44 [v0, v1] (.long x2 :: .long x1 :: .long x0 :: []) h 0 0 = (tX0_isIn [.long x0, .long x1, .long x2] h (fun v h => eX0_mayBe ret F n 47 [v0, v1] (v.toList ++ ([])) h 0 0)) := (amWp_dec rfl dX0_mayBe_44 rfl).trans (amS4 (Nat.le_of_ble_eq_true rfl) (Nat.le_of_ble_eq_true rfl) (Nat.le_of_ble_eq_true rfl) (Nat.le_of_ble_eq_true rfl))
theorem wX0_mayBe_47 {ret F n h} {v0 v1 st x} : eX0_mayBe ret F (n + 1) 47 [v0, v1] (.int x :: st) h 0 0 = ((x = 0 → eX0_mayBe ret F n 54 [v0, v1] (st) h 0 0) ∧ (¬ x = 0 → eX0_mayBe ret F n 50 [v0, v1] (st) h 0 0)) := (amWp_dec rfl dX0_mayBe_47 rfl).trans rfl
theorem wX0_mayBe_50 {ret F n h} {v0 v1 st} : eX0_mayBe ret F (n + 1) 50 [v0, v1] (st) h 0 0 = (eX0_mayBe ret F n 51 [v0, v1] (.int (nI 1) :: st) h 0 0) := (amWp_dec rfl dX0_mayBe_50 rfl).trans rfl
theorem wX0_mayBe_51 {ret F n h} {v0 v1 st} : eX0_mayBe ret F (n + 1) 51 [v0, v1] (st) h 0 0 = (eX0_mayBe ret F n 55 [v0, v1] (st) h 0 0) := (amWp_dec rfl dX0_mayBe_51 rfl).trans rfl
theorem wX0_mayBe_54 {ret F n h} {v0 v1 st} : eX0_mayBe ret F (n + 1) 54 [v0, v1] (st) h 0 0 = (eX0_mayBe ret F n 55 [v0, v1] (.int (nI 0) :: st) h 0 0) := (amWp_dec rfl dX0_mayBe_54 rfl).trans rfl
theorem wX0_mayBe_55 {ret F n ls st h k z} : eX0_mayBe ret F (n + 1) 55 ls st h k z = F 55 ls st h k z := amWp_cut rfl
theorem uX0_mayBe_55 {ret F n h} {v0 v1 x} : sX0_mayBe ret F n 55 [v0, v1] ([.int x]) h 0 0 = (narrow .boolean (.int x) = .int x ∧ ret (some (.int x)) h 0 0) := (amWs_dec dX0_mayBe_55 rfl).trans (amRetTy)
theorem evX0_mayBe (l : Launch) (G : amG) : ∀ pc S i sz, amLk rX0_mayBe pc = some S → decode cX0_mayBe pc = .ok (i, sz) → amSiteP pc G l yX0_mayBe.cls yX0_mayBe.name yX0_mayBe.desc (amRm 2 0 0) i sz S.1 S.2.1 S.2.2.1 S.2.2.2 := amLk_ok (by
  refine List.forall_mem_cons.mpr ⟨⟨_, _, dX0_mayBe_7, amSite.P (amSiteLdc2 q937)⟩, ?_⟩
  refine List.forall_mem_cons.mpr ⟨⟨_, _, dX0_mayBe_10, amSite.P (amSiteS (metX0_isIn l G) rfl (by decide) (by decide) (lw_S q382 q383 q86 q384) ⟨by decide +kernel, by decide +kernel, by decide +kernel⟩)⟩, ?_⟩
  refine List.forall_mem_cons.mpr ⟨⟨_, _, dX0_mayBe_24, amSite.P (amSiteLdc2 q938)⟩, ?_⟩
  refine List.forall_mem_cons.mpr ⟨⟨_, _, dX0_mayBe_27, amSite.P (amSiteS (metX0_isIn l G) rfl (by decide) (by decide) (lw_S q382 q383 q86 q384) ⟨by decide +kernel, by decide +kernel, by decide +kernel⟩)⟩, ?_⟩
  refine List.forall_mem_cons.mpr ⟨⟨_, _, dX0_mayBe_41, amSite.P (amSiteLdc2 q939)⟩, ?_⟩
  refine List.forall_mem_cons.mpr ⟨⟨_, _, dX0_mayBe_44, amSite.P (amSiteS (metX0_isIn l G) rfl (by decide) (by decide) (lw_S q382 q383 q86 q384) ⟨by decide +kernel, by decide +kernel, by decide +kernel⟩)⟩, ?_⟩
  exact fun _ h => absurd h List.not_mem_nil)
theorem goX0_mayBe {ret F} (hF : amCld cX0_mayBe kX0_mayBe (amLk rX0_mayBe) (some .boolean) 0 0 ret F) (n : Nat) {pc ls st h k z} (q : sX0_mayBe ret F n pc ls st h k z) : F pc ls st h k z := hF.1 n pc ls st h k z q
theorem metX0_mayBe (l : Launch) (G : amG) : amMet l G yX0_mayBe (ws_ yX0_mayBe cX0_mayBe 2 (some .boolean)) 2 0 0 tX0_mayBe := by
  refine amMet_of (cut := kX0_mayBe) (by decide +kernel) (evX0_mayBe l G) ?_
  intro as h K hT
  match as, hT with
  | [.int w, .int v], hK =>
  refine ⟨Nat.le_of_ble_eq_true rfl, fun F hF => ?_⟩
  show F 0 [.int w, .int v] [] h 0 0
  have hK : K (some (.int (amC01 (mayP w v)))) h := hK
  have fin : ∀ c, c = amC01 (mayP w v) → F 55 [.int w, .int v] [.int c] h 0 0 := by
    intro c e
    subst e
    refine goX0_mayBe hF 20 ?_
    simp (disch := omega) only [wX0_mayBe_0, uX0_mayBe_0, wX0_mayBe_1, wX0_mayBe_4, wX0_mayBe_5, wX0_mayBe_6, wX0_mayBe_7, wX0_mayBe_10, wX0_mayBe_13, wX0_mayBe_16, wX0_mayBe_17, wX0_mayBe_18, wX0_mayBe_21, wX0_mayBe_22, wX0_mayBe_23, wX0_mayBe_24, wX0_mayBe_27, wX0_mayBe_30, wX0_mayBe_33, wX0_mayBe_34, wX0_mayBe_35, wX0_mayBe_38, wX0_mayBe_39, wX0_mayBe_40, wX0_mayBe_41, wX0_mayBe_44, wX0_mayBe_47, wX0_mayBe_50, wX0_mayBe_51, wX0_mayBe_54, wX0_mayBe_55, uX0_mayBe_55, amSI_1, amSI_2, amSI_3, amSI_s, amU_at, amIsR_ref, amIsR_null, amIsR_rf, amRf_some, amRf_none, amClr_int, amClr_ref, amClr_null, amClr_long, amClr_ra, amClr_rf, amFit_int, amFit_oref, amFit_aref, amFit_onull, amFit_anull, amOptSome, amOptNone, List.cons_append, List.nil_append, true_and, and_true, true_implies, not_true_eq_false, not_false_eq_true, false_implies, and_self, Nat.add_zero, Nat.zero_add, ne_eq, Prod.mk.injEq, amC01_0, amC01_1, amC01_nb, amNb0, amNb1, amTcpI_d, Nat.reduceLeDiff, Nat.reduceAdd, Nat.reduceSub, Nat.reduceEqDiff, Nat.le_refl, amN0le]
    exact amRet.of (by decide) (by decide) hK
  have n01 : (nI 1 = nI 0) = False := by decide
  have n20 : (nI 2 = nI 0) = False := by decide
  have n21 : (nI 2 = nI 1) = False := by decide
  have z0 : (w = 0) = (w = nI 0) := rfl
  refine goX0_mayBe hF 40 ?_
  simp (disch := omega) only [wX0_mayBe_0, uX0_mayBe_0, wX0_mayBe_1, wX0_mayBe_4, wX0_mayBe_5, wX0_mayBe_6, wX0_mayBe_7, wX0_mayBe_10, wX0_mayBe_13, wX0_mayBe_16, wX0_mayBe_17, wX0_mayBe_18, wX0_mayBe_21, wX0_mayBe_22, wX0_mayBe_23, wX0_mayBe_24, wX0_mayBe_27, wX0_mayBe_30, wX0_mayBe_33, wX0_mayBe_34, wX0_mayBe_35, wX0_mayBe_38, wX0_mayBe_39, wX0_mayBe_40, wX0_mayBe_41, wX0_mayBe_44, wX0_mayBe_47, wX0_mayBe_50, wX0_mayBe_51, wX0_mayBe_54, wX0_mayBe_55, uX0_mayBe_55, amSI_1, amSI_2, amSI_3, amSI_s, amU_at, amIsR_ref, amIsR_null, amIsR_rf, amRf_some, amRf_none, amClr_int, amClr_ref, amClr_null, amClr_long, amClr_ra, amClr_rf, amFit_int, amFit_oref, amFit_aref, amFit_onull, amFit_anull, amOptSome, amOptNone, List.cons_append, List.nil_append, true_and, and_true, true_implies, not_true_eq_false, not_false_eq_true, false_implies, and_self, Nat.add_zero, Nat.zero_add, ne_eq, Prod.mk.injEq, amC01_0, amC01_1, amC01_nb, amNb0, amNb1, amTcpI_d, Nat.reduceLeDiff, Nat.reduceAdd, Nat.reduceSub, Nat.reduceEqDiff, Nat.le_refl, amN0le, tX0_isIn_d, z0]
  refine ⟨fun y0 => ⟨fun y1 => ⟨fun y2 => fin _ (amC01_f ?_).symm, fun y2 => ⟨fun y3 => fin _ (amC01_f ?_).symm, fun y3 => fin _ (amC01_t ?_).symm⟩⟩, fun y1 => fin _ (amC01_i ?_)⟩, fun y0 => fin _ (amC01_i ?_)⟩
  · rintro (z | z | z)
    · exact y0 z.1
    · exact y1 z.1
    · exact y2 z.1
  · rintro (z | z | z)
    · exact y0 z.1
    · exact y1 z.1
    · exact y3 z.2
  · exact Or.inr (Or.inr ⟨y2, Classical.not_not.mp y3⟩)
  · subst y1
    constructor
    · intro z; exact Or.inr (Or.inl ⟨rfl, z⟩)
    · rintro (z | z | z)
      · exact absurd z.1 (by decide)
      · exact z.2
      · exact absurd z.1 (by decide)
  · subst y0
    constructor
    · intro z; exact Or.inl ⟨rfl, z⟩
    · rintro (z | z | z)
      · exact z.2
      · exact absurd z.1 (by decide)
      · exact absurd z.1 (by decide)
theorem tX0_mayBe_d {w v : Int32} {h : amH} {K : Option Value → amH → Prop} : tX0_mayBe [.int w, .int v] h K = K (some (.int (amC01 (mayP w v)))) h := rfl
theorem mayP_N {w v : Int32} (h : mayP w v) : ∃ a b : Nat, w = nI a ∧ v = nI b ∧ mayT a b := by
  rcases h with ⟨h1, h2⟩ | ⟨h1, h2⟩ | ⟨h1, h2⟩
  · obtain ⟨j, j1, j2, j3⟩ := (amInL (by decide) (by decide)).mp h2
    exact ⟨0, j, h1, j3, Or.inl ⟨rfl, j1, j2⟩⟩
  · obtain ⟨j, j1, j2, j3⟩ := (amInL (by decide) (by decide)).mp h2
    exact ⟨1, j, h1, j3, Or.inr (Or.inl ⟨rfl, j2⟩)⟩
  · obtain ⟨j, j1, j2, j3⟩ := (amInL (by decide) (by decide)).mp h2
    exact ⟨2, j, h1, j3, Or.inr (Or.inr ⟨rfl, j2⟩)⟩
theorem HsIs.setT {m : Nat → Nat → Int32} {S : HS} (q : HsIs m 25 S) (w v : Nat) : HsIs (amU (amU (amU m 25 4 (nI (if w = 0 then v else S.span))) 25 5 (nI (if w = 1 then v else S.bound))) 25 6 (nI (if w = 2 then v else S.rule))) 25 (S.setT w v) := by
  refine HsIs.mk (q.ord.kept (by funext j; simp (disch := omega) only [amU_at, amU_ne, amU_nj, amU_neR, up_ne, up_at, amSI_2]) (by funext j; simp (disch := omega) only [amU_at, amU_ne, amU_nj, amU_neR, up_ne, up_at, amSI_2])) q.ls q.la (fun i hi => ?_) (fun i hi => ?_) ?_ ?_ ?_ ?_ ?_ q.ba
  · simp (disch := omega) only [amU_at, amU_ne, amU_nj, amU_neR, up_ne, up_at, amSI_2]
    exact q.sets i hi
  · simp (disch := omega) only [amU_at, amU_ne, amU_nj, amU_neR, up_ne, up_at, amSI_2]
    exact q.ahead i hi
  · simp (disch := omega) only [amU_at, amU_ne, amU_nj, amU_neR, up_ne, up_at, amSI_2]
    exact q.prior
  · simp (disch := omega) only [amU_at, amU_ne, amU_nj, amU_neR, up_ne, up_at, amSI_2]
    rfl
  · simp (disch := omega) only [amU_at, amU_ne, amU_nj, amU_neR, up_ne, up_at, amSI_2]
    rfl
  · simp (disch := omega) only [amU_at, amU_ne, amU_nj, amU_neR, up_ne, up_at, amSI_2]
    rfl
  · simp (disch := omega) only [amU_at, amU_ne, amU_nj, amU_neR, up_ne, up_at, amSI_2]
    exact q.draw
def tX0_put : amT := fun as h K => match as with
  | [.ref a, .int w0, .int v0] => ∃ (S : HS) (w v : Nat), a = (24 : Nat) ∧ w0 = nI w ∧ v0 = nI v ∧ w < 3 ∧ rsAt h ∧ HsIs h.2.1 25 S ∧ ∀ m', HsIs m' 25 (S.setT w v) → hsFr h.2.1 m' 25 → K none (amSI h m')
  | _ => False
/-! ReadingStages.put(II)V -/
def kX0_put : Nat → Bool := fun pc => false
def rX0_put : List (Nat × amS) := [(1, 1, 0, 0, amTget 0 0), (13, 1, 0, 0, amTget 0 0), (16, 1, 0, 0, amTget 1 4), (19, 2, 0, 0, amTput 1 4), (23, 1, 0, 0, amTget 0 0), (36, 1, 0, 0, amTget 0 0), (39, 1, 0, 0, amTget 1 5), (42, 2, 0, 0, amTput 1 5), (46, 1, 0, 0, amTget 0 0), (59, 1, 0, 0, amTget 0 0), (62, 1, 0, 0, amTget 1 6), (65, 2, 0, 0, amTput 1 6)]
def eX0_put (ret : Option Value → amH → Nat → Nat → Prop) (F : amX) : Nat → amX := amWp cX0_put kX0_put (amLk rX0_put) none 0 0 ret F
def sX0_put (ret : Option Value → amH → Nat → Nat → Prop) (F : amX) : Nat → amX := amWs cX0_put kX0_put (amLk rX0_put) none 0 0 ret F
theorem wX0_put_0 {ret F n h} {v0 v1 v2 st} : eX0_put ret F (n + 1) 0 [v0, v1, v2] (st) h 0 0 = (amIsR v0 ∧ eX0_put ret F n 1 [v0, v1, v2] (v0 :: st) h 0 0) := (amWp_dec rfl dX0_put_0 rfl).trans rfl
theorem uX0_put_0 {ret F n h} {v0 v1 v2 st} : sX0_put ret F n 0 [v0, v1, v2] (st) h 0 0 = (amIsR v0 ∧ eX0_put ret F n 1 [v0, v1, v2] (v0 :: st) h 0 0) := (amWs_dec dX0_put_0 rfl).trans rfl
theorem wX0_put_1 {ret F n h} {v0 v1 v2 a} : eX0_put ret F (n + 1) 1 [v0, v1, v2] (.ref a :: []) h 0 0 = (h.1 a = (0, 0) ∧ eX0_put ret F n 4 [v0, v1, v2] (va_rf (h.2.2.2.1 a 0) :: []) h 0 0) := (amWp_dec rfl dX0_put_1 rfl).trans (amS4 (Nat.le_of_ble_eq_true rfl) (Nat.le_of_ble_eq_true rfl) (Nat.le_of_ble_eq_true rfl) (Nat.le_of_ble_eq_true rfl))
theorem wX0_put_4 {ret F n h} {v0 v2 st x} : eX0_put ret F (n + 1) 4 [v0, .int x, v2] (st) h 0 0 = (eX0_put ret F n 5 [v0, .int x, v2] (.int x :: st) h 0 0) := (amWp_dec rfl dX0_put_4 rfl).trans rfl
theorem wX0_put_5 {ret F n h} {v0 v1 v2 st x} : eX0_put ret F (n + 1) 5 [v0, v1, v2] (.int x :: st) h 0 0 = ((¬ x = 0 → eX0_put ret F n 12 [v0, v1, v2] (st) h 0 0) ∧ (x = 0 → eX0_put ret F n 8 [v0, v1, v2] (st) h 0 0)) := (amWp_dec rfl dX0_put_5 rfl).trans rfl
theorem wX0_put_8 {ret F n h} {v0 v1 st x} : eX0_put ret F (n + 1) 8 [v0, v1, .int x] (st) h 0 0 = (eX0_put ret F n 9 [v0, v1, .int x] (.int x :: st) h 0 0) := (amWp_dec rfl dX0_put_8 rfl).trans rfl
theorem wX0_put_9 {ret F n h} {v0 v1 v2 st} : eX0_put ret F (n + 1) 9 [v0, v1, v2] (st) h 0 0 = (eX0_put ret F n 19 [v0, v1, v2] (st) h 0 0) := (amWp_dec rfl dX0_put_9 rfl).trans rfl
theorem wX0_put_12 {ret F n h} {v0 v1 v2 st} : eX0_put ret F (n + 1) 12 [v0, v1, v2] (st) h 0 0 = (amIsR v0 ∧ eX0_put ret F n 13 [v0, v1, v2] (v0 :: st) h 0 0) := (amWp_dec rfl dX0_put_12 rfl).trans rfl
theorem wX0_put_13 {ret F n h} {v0 v1 v2 r0 a} : eX0_put ret F (n + 1) 13 [v0, v1, v2] (.ref a :: r0 :: []) h 0 0 = (h.1 a = (0, 0) ∧ eX0_put ret F n 16 [v0, v1, v2] (va_rf (h.2.2.2.1 a 0) :: r0 :: []) h 0 0) := (amWp_dec rfl dX0_put_13 rfl).trans (amS4 (Nat.le_of_ble_eq_true rfl) (Nat.le_of_ble_eq_true rfl) (Nat.le_of_ble_eq_true rfl) (Nat.le_of_ble_eq_true rfl))
theorem wX0_put_16 {ret F n h} {v0 v1 v2 r0 a} : eX0_put ret F (n + 1) 16 [v0, v1, v2] (.ref a :: r0 :: []) h 0 0 = (h.1 a = (0, 1) ∧ eX0_put ret F n 19 [v0, v1, v2] (.int (h.2.1 a 4) :: r0 :: []) h 0 0) := (amWp_dec rfl dX0_put_16 rfl).trans (amS4 (Nat.le_of_ble_eq_true rfl) (Nat.le_of_ble_eq_true rfl) (Nat.le_of_ble_eq_true rfl) (Nat.le_of_ble_eq_true rfl))
theorem wX0_put_19 {ret F n h} {v0 v1 v2 x a} : eX0_put ret F (n + 1) 19 [v0, v1, v2] (.int x :: .ref a :: []) h 0 0 = (h.1 a = (0, 1) ∧ amN0 ≤ a ∧ amFit .int (.int x) ∧ eX0_put ret F n 22 [v0, v1, v2] ([]) (amSI h (amU h.2.1 a 4 x)) 0 0) := (amWp_dec rfl dX0_put_19 rfl).trans (amS4 (Nat.le_of_ble_eq_true rfl) (Nat.le_of_ble_eq_true rfl) (Nat.le_of_ble_eq_true rfl) (Nat.le_of_ble_eq_true rfl))
theorem wX0_put_22 {ret F n h} {v0 v1 v2 st} : eX0_put ret F (n + 1) 22 [v0, v1, v2] (st) h 0 0 = (amIsR v0 ∧ eX0_put ret F n 23 [v0, v1, v2] (v0 :: st) h 0 0) := (amWp_dec rfl dX0_put_22 rfl).trans rfl
theorem wX0_put_23 {ret F n h} {v0 v1 v2 a} : eX0_put ret F (n + 1) 23 [v0, v1, v2] (.ref a :: []) h 0 0 = (h.1 a = (0, 0) ∧ eX0_put ret F n 26 [v0, v1, v2] (va_rf (h.2.2.2.1 a 0) :: []) h 0 0) := (amWp_dec rfl dX0_put_23 rfl).trans (amS4 (Nat.le_of_ble_eq_true rfl) (Nat.le_of_ble_eq_true rfl) (Nat.le_of_ble_eq_true rfl) (Nat.le_of_ble_eq_true rfl))
theorem wX0_put_26 {ret F n h} {v0 v2 st x} : eX0_put ret F (n + 1) 26 [v0, .int x, v2] (st) h 0 0 = (eX0_put ret F n 27 [v0, .int x, v2] (.int x :: st) h 0 0) := (amWp_dec rfl dX0_put_26 rfl).trans rfl
theorem wX0_put_27 {ret F n h} {v0 v1 v2 st} : eX0_put ret F (n + 1) 27 [v0, v1, v2] (st) h 0 0 = (eX0_put ret F n 28 [v0, v1, v2] (.int (nI 1) :: st) h 0 0) := (amWp_dec rfl dX0_put_27 rfl).trans rfl
theorem wX0_put_28 {ret F n h} {v0 v1 v2 st y x} : eX0_put ret F (n + 1) 28 [v0, v1, v2] (.int y :: .int x :: st) h 0 0 = ((¬ x = y → eX0_put ret F n 35 [v0, v1, v2] (st) h 0 0) ∧ (x = y → eX0_put ret F n 31 [v0, v1, v2] (st) h 0 0)) := (amWp_dec rfl dX0_put_28 rfl).trans rfl
theorem wX0_put_31 {ret F n h} {v0 v1 st x} : eX0_put ret F (n + 1) 31 [v0, v1, .int x] (st) h 0 0 = (eX0_put ret F n 32 [v0, v1, .int x] (.int x :: st) h 0 0) := (amWp_dec rfl dX0_put_31 rfl).trans rfl
theorem wX0_put_32 {ret F n h} {v0 v1 v2 st} : eX0_put ret F (n + 1) 32 [v0, v1, v2] (st) h 0 0 = (eX0_put ret F n 42 [v0, v1, v2] (st) h 0 0) := (amWp_dec rfl dX0_put_32 rfl).trans rfl
theorem wX0_put_35 {ret F n h} {v0 v1 v2 st} : eX0_put ret F (n + 1) 35 [v0, v1, v2] (st) h 0 0 = (amIsR v0 ∧ eX0_put ret F n 36 [v0, v1, v2] (v0 :: st) h 0 0) := (amWp_dec rfl dX0_put_35 rfl).trans rfl
theorem wX0_put_36 {ret F n h} {v0 v1 v2 r0 a} : eX0_put ret F (n + 1) 36 [v0, v1, v2] (.ref a :: r0 :: []) h 0 0 = (h.1 a = (0, 0) ∧ eX0_put ret F n 39 [v0, v1, v2] (va_rf (h.2.2.2.1 a 0) :: r0 :: []) h 0 0) := (amWp_dec rfl dX0_put_36 rfl).trans (amS4 (Nat.le_of_ble_eq_true rfl) (Nat.le_of_ble_eq_true rfl) (Nat.le_of_ble_eq_true rfl) (Nat.le_of_ble_eq_true rfl))
theorem wX0_put_39 {ret F n h} {v0 v1 v2 r0 a} : eX0_put ret F (n + 1) 39 [v0, v1, v2] (.ref a :: r0 :: []) h 0 0 = (h.1 a = (0, 1) ∧ eX0_put ret F n 42 [v0, v1, v2] (.int (h.2.1 a 5) :: r0 :: []) h 0 0) := (amWp_dec rfl dX0_put_39 rfl).trans (amS4 (Nat.le_of_ble_eq_true rfl) (Nat.le_of_ble_eq_true rfl) (Nat.le_of_ble_eq_true rfl) (Nat.le_of_ble_eq_true rfl))
theorem wX0_put_42 {ret F n h} {v0 v1 v2 x a} : eX0_put ret F (n + 1) 42 [v0, v1, v2] (.int x :: .ref a :: []) h 0 0 = (h.1 a = (0, 1) ∧ amN0 ≤ a ∧ amFit .int (.int x) ∧ eX0_put ret F n 45 [v0, v1, v2] ([]) (amSI h (amU h.2.1 a 5 x)) 0 0) := (amWp_dec rfl dX0_put_42 rfl).trans (amS4 (Nat.le_of_ble_eq_true rfl) (Nat.le_of_ble_eq_true rfl) (Nat.le_of_ble_eq_true rfl) (Nat.le_of_ble_eq_true rfl))
theorem wX0_put_45 {ret F n h} {v0 v1 v2 st} : eX0_put ret F (n + 1) 45 [v0, v1, v2] (st) h 0 0 = (amIsR v0 ∧ eX0_put ret F n 46 [v0, v1, v2] (v0 :: st) h 0 0) := (amWp_dec rfl dX0_put_45 rfl).trans rfl
theorem wX0_put_46 {ret F n h} {v0 v1 v2 a} : eX0_put ret F (n + 1) 46 [v0, v1, v2] (.ref a :: []) h 0 0 = (h.1 a = (0, 0) ∧ eX0_put ret F n 49 [v0, v1, v2] (va_rf (h.2.2.2.1 a 0) :: []) h 0 0) := (amWp_dec rfl dX0_put_46 rfl).trans (amS4 (Nat.le_of_ble_eq_true rfl) (Nat.le_of_ble_eq_true rfl) (Nat.le_of_ble_eq_true rfl) (Nat.le_of_ble_eq_true rfl))
theorem wX0_put_49 {ret F n h} {v0 v2 st x} : eX0_put ret F (n + 1) 49 [v0, .int x, v2] (st) h 0 0 = (eX0_put ret F n 50 [v0, .int x, v2] (.int x :: st) h 0 0) := (amWp_dec rfl dX0_put_49 rfl).trans rfl
theorem wX0_put_50 {ret F n h} {v0 v1 v2 st} : eX0_put ret F (n + 1) 50 [v0, v1, v2] (st) h 0 0 = (eX0_put ret F n 51 [v0, v1, v2] (.int (nI 2) :: st) h 0 0) := (amWp_dec rfl dX0_put_50 rfl).trans rfl
theorem wX0_put_51 {ret F n h} {v0 v1 v2 st y x} : eX0_put ret F (n + 1) 51 [v0, v1, v2] (.int y :: .int x :: st) h 0 0 = ((¬ x = y → eX0_put ret F n 58 [v0, v1, v2] (st) h 0 0) ∧ (x = y → eX0_put ret F n 54 [v0, v1, v2] (st) h 0 0)) := (amWp_dec rfl dX0_put_51 rfl).trans rfl
theorem wX0_put_54 {ret F n h} {v0 v1 st x} : eX0_put ret F (n + 1) 54 [v0, v1, .int x] (st) h 0 0 = (eX0_put ret F n 55 [v0, v1, .int x] (.int x :: st) h 0 0) := (amWp_dec rfl dX0_put_54 rfl).trans rfl
theorem wX0_put_55 {ret F n h} {v0 v1 v2 st} : eX0_put ret F (n + 1) 55 [v0, v1, v2] (st) h 0 0 = (eX0_put ret F n 65 [v0, v1, v2] (st) h 0 0) := (amWp_dec rfl dX0_put_55 rfl).trans rfl
theorem wX0_put_58 {ret F n h} {v0 v1 v2 st} : eX0_put ret F (n + 1) 58 [v0, v1, v2] (st) h 0 0 = (amIsR v0 ∧ eX0_put ret F n 59 [v0, v1, v2] (v0 :: st) h 0 0) := (amWp_dec rfl dX0_put_58 rfl).trans rfl
theorem wX0_put_59 {ret F n h} {v0 v1 v2 r0 a} : eX0_put ret F (n + 1) 59 [v0, v1, v2] (.ref a :: r0 :: []) h 0 0 = (h.1 a = (0, 0) ∧ eX0_put ret F n 62 [v0, v1, v2] (va_rf (h.2.2.2.1 a 0) :: r0 :: []) h 0 0) := (amWp_dec rfl dX0_put_59 rfl).trans (amS4 (Nat.le_of_ble_eq_true rfl) (Nat.le_of_ble_eq_true rfl) (Nat.le_of_ble_eq_true rfl) (Nat.le_of_ble_eq_true rfl))
theorem wX0_put_62 {ret F n h} {v0 v1 v2 r0 a} : eX0_put ret F (n + 1) 62 [v0, v1, v2] (.ref a :: r0 :: []) h 0 0 = (h.1 a = (0, 1) ∧ eX0_put ret F n 65 [v0, v1, v2] (.int (h.2.1 a 6) :: r0 :: []) h 0 0) := (amWp_dec rfl dX0_put_62 rfl).trans (amS4 (Nat.le_of_ble_eq_true rfl) (Nat.le_of_ble_eq_true rfl) (Nat.le_of_ble_eq_true rfl) (Nat.le_of_ble_eq_true rfl))
theorem wX0_put_65 {ret F n h} {v0 v1 v2 x a} : eX0_put ret F (n + 1) 65 [v0, v1, v2] (.int x :: .ref a :: []) h 0 0 = (h.1 a = (0, 1) ∧ amN0 ≤ a ∧ amFit .int (.int x) ∧ eX0_put ret F n 68 [v0, v1, v2] ([]) (amSI h (amU h.2.1 a 6 x)) 0 0) := (amWp_dec rfl dX0_put_65 rfl).trans (amS4 (Nat.le_of_ble_eq_true rfl) (Nat.le_of_ble_eq_true rfl) (Nat.le_of_ble_eq_true rfl) (Nat.le_of_ble_eq_true rfl))
theorem wX0_put_68 {ret F n h} {v0 v1 v2} : eX0_put ret F (n + 1) 68 [v0, v1, v2] ([]) h 0 0 = (ret none h 0 0) := (amWp_dec rfl dX0_put_68 rfl).trans (amTrue rfl)
theorem evX0_put (l : Launch) (G : amG) : ∀ pc S i sz, amLk rX0_put pc = some S → decode cX0_put pc = .ok (i, sz) → amSiteP pc G l yX0_put.cls yX0_put.name yX0_put.desc (amRm 1 0 0) i sz S.1 S.2.1 S.2.2.1 S.2.2.2 := amLk_ok (by
  refine List.forall_mem_cons.mpr ⟨⟨_, _, dX0_put_1, amSite.P (amSiteGet ⟨_, rfl, by decide, Or.inl q301⟩)⟩, ?_⟩
  refine List.forall_mem_cons.mpr ⟨⟨_, _, dX0_put_13, amSite.P (amSiteGet ⟨_, rfl, by decide, Or.inl q301⟩)⟩, ?_⟩
  refine List.forall_mem_cons.mpr ⟨⟨_, _, dX0_put_16, amSite.P (amSiteGet ⟨_, rfl, by decide, Or.inr ⟨"ReadingStages", List.mem_of_getElem? (i := 6) rfl⟩⟩)⟩, ?_⟩
  refine List.forall_mem_cons.mpr ⟨⟨_, _, dX0_put_19, amSite.P (amSitePut ⟨_, rfl, by decide, Or.inr ⟨"ReadingStages", List.mem_of_getElem? (i := 6) rfl⟩⟩ (fun q h => by cases h; rfl))⟩, ?_⟩
  refine List.forall_mem_cons.mpr ⟨⟨_, _, dX0_put_23, amSite.P (amSiteGet ⟨_, rfl, by decide, Or.inl q301⟩)⟩, ?_⟩
  refine List.forall_mem_cons.mpr ⟨⟨_, _, dX0_put_36, amSite.P (amSiteGet ⟨_, rfl, by decide, Or.inl q301⟩)⟩, ?_⟩
  refine List.forall_mem_cons.mpr ⟨⟨_, _, dX0_put_39, amSite.P (amSiteGet ⟨_, rfl, by decide, Or.inr ⟨"ReadingStages", List.mem_of_getElem? (i := 7) rfl⟩⟩)⟩, ?_⟩
  refine List.forall_mem_cons.mpr ⟨⟨_, _, dX0_put_42, amSite.P (amSitePut ⟨_, rfl, by decide, Or.inr ⟨"ReadingStages", List.mem_of_getElem? (i := 7) rfl⟩⟩ (fun q h => by cases h; rfl))⟩, ?_⟩
  refine List.forall_mem_cons.mpr ⟨⟨_, _, dX0_put_46, amSite.P (amSiteGet ⟨_, rfl, by decide, Or.inl q301⟩)⟩, ?_⟩
  refine List.forall_mem_cons.mpr ⟨⟨_, _, dX0_put_59, amSite.P (amSiteGet ⟨_, rfl, by decide, Or.inl q301⟩)⟩, ?_⟩
  refine List.forall_mem_cons.mpr ⟨⟨_, _, dX0_put_62, amSite.P (amSiteGet ⟨_, rfl, by decide, Or.inr ⟨"ReadingStages", List.mem_of_getElem? (i := 8) rfl⟩⟩)⟩, ?_⟩
  refine List.forall_mem_cons.mpr ⟨⟨_, _, dX0_put_65, amSite.P (amSitePut ⟨_, rfl, by decide, Or.inr ⟨"ReadingStages", List.mem_of_getElem? (i := 8) rfl⟩⟩ (fun q h => by cases h; rfl))⟩, ?_⟩
  exact fun _ h => absurd h List.not_mem_nil)
theorem goX0_put {ret F} (hF : amCld cX0_put kX0_put (amLk rX0_put) none 0 0 ret F) (n : Nat) {pc ls st h k z} (q : sX0_put ret F n pc ls st h k z) : F pc ls st h k z := hF.1 n pc ls st h k z q
theorem metX0_put (l : Launch) (G : amG) : amMet l G yX0_put (ws_ yX0_put cX0_put 3 none) 1 0 0 tX0_put := by
  refine amMet_of (cut := kX0_put) (by decide +kernel) (evX0_put l G) ?_
  intro as h K hT
  match as, hT with
  | [.ref a, .int w0, .int v0], ⟨S, w, v, e1, e2, e3, hw, hR, hS, hK⟩ =>
  refine ⟨Nat.le_of_ble_eq_true rfl, fun F hF => ?_⟩
  show F 0 [.ref a, .int w0, .int v0] [] h 0 0
  obtain ⟨a, rfl⟩ : ∃ i : Nat, i = a := ⟨_, rfl⟩
  subst e1; subst e2; subst e3
  have f1 := hS.span
  have f2 := hS.bound
  have f3 := hS.rule
  have key := hK _ (hS.setT w v) (fun i hi => by simp (disch := omega) only [amU_at, amU_ne, amU_nj, amU_neR, up_ne, up_at, amSI_2])
  have n10 : (nI 1 = 0) = False := by decide
  have n00 : (nI 0 = 0) = True := by decide
  have n20 : (nI 2 = 0) = False := by decide
  have n01 : (nI 0 = nI 1) = False := by decide
  have n02 : (nI 0 = nI 2) = False := by decide
  have n12 : (nI 1 = nI 2) = False := by decide
  have n21 : (nI 2 = nI 1) = False := by decide
  rcases (show w = 0 ∨ w = 1 ∨ w = 2 by omega) with e | e | e
  · subst e
    refine goX0_put hF 60 ?_
    simp (disch := omega) only [wX0_put_0, uX0_put_0, wX0_put_1, wX0_put_4, wX0_put_5, wX0_put_8, wX0_put_9, wX0_put_12, wX0_put_13, wX0_put_16, wX0_put_19, wX0_put_22, wX0_put_23, wX0_put_26, wX0_put_27, wX0_put_28, wX0_put_31, wX0_put_32, wX0_put_35, wX0_put_36, wX0_put_39, wX0_put_42, wX0_put_45, wX0_put_46, wX0_put_49, wX0_put_50, wX0_put_51, wX0_put_54, wX0_put_55, wX0_put_58, wX0_put_59, wX0_put_62, wX0_put_65, wX0_put_68, amSI_1, amSI_2, amSI_3, amSI_s, amU_at, amIsR_ref, amIsR_null, amIsR_rf, amRf_some, amRf_none, amClr_int, amClr_ref, amClr_null, amClr_long, amClr_ra, amClr_rf, amFit_int, amFit_oref, amFit_aref, amFit_onull, amFit_anull, amOptSome, amOptNone, List.cons_append, List.nil_append, true_and, and_true, true_implies, not_true_eq_false, not_false_eq_true, false_implies, and_self, Nat.add_zero, Nat.zero_add, ne_eq, Prod.mk.injEq, amC01_0, amC01_1, amC01_nb, amNb0, amNb1, amTcpI_d, Nat.reduceLeDiff, Nat.reduceAdd, Nat.reduceSub, Nat.reduceEqDiff, Nat.le_refl, amN0le, hR.s, hR.r, f1, f2, f3, n00, n01, n02, eq_self, amU_ne, amU_nj]
    exact amRet.of (by decide) (by decide) key
  · subst e
    refine goX0_put hF 60 ?_
    simp (disch := omega) only [wX0_put_0, uX0_put_0, wX0_put_1, wX0_put_4, wX0_put_5, wX0_put_8, wX0_put_9, wX0_put_12, wX0_put_13, wX0_put_16, wX0_put_19, wX0_put_22, wX0_put_23, wX0_put_26, wX0_put_27, wX0_put_28, wX0_put_31, wX0_put_32, wX0_put_35, wX0_put_36, wX0_put_39, wX0_put_42, wX0_put_45, wX0_put_46, wX0_put_49, wX0_put_50, wX0_put_51, wX0_put_54, wX0_put_55, wX0_put_58, wX0_put_59, wX0_put_62, wX0_put_65, wX0_put_68, amSI_1, amSI_2, amSI_3, amSI_s, amU_at, amIsR_ref, amIsR_null, amIsR_rf, amRf_some, amRf_none, amClr_int, amClr_ref, amClr_null, amClr_long, amClr_ra, amClr_rf, amFit_int, amFit_oref, amFit_aref, amFit_onull, amFit_anull, amOptSome, amOptNone, List.cons_append, List.nil_append, true_and, and_true, true_implies, not_true_eq_false, not_false_eq_true, false_implies, and_self, Nat.add_zero, Nat.zero_add, ne_eq, Prod.mk.injEq, amC01_0, amC01_1, amC01_nb, amNb0, amNb1, amTcpI_d, Nat.reduceLeDiff, Nat.reduceAdd, Nat.reduceSub, Nat.reduceEqDiff, Nat.le_refl, amN0le, hR.s, hR.r, f1, f2, f3, n10, n12, eq_self, amU_ne, amU_nj]
    exact amRet.of (by decide) (by decide) key
  · subst e
    refine goX0_put hF 60 ?_
    simp (disch := omega) only [wX0_put_0, uX0_put_0, wX0_put_1, wX0_put_4, wX0_put_5, wX0_put_8, wX0_put_9, wX0_put_12, wX0_put_13, wX0_put_16, wX0_put_19, wX0_put_22, wX0_put_23, wX0_put_26, wX0_put_27, wX0_put_28, wX0_put_31, wX0_put_32, wX0_put_35, wX0_put_36, wX0_put_39, wX0_put_42, wX0_put_45, wX0_put_46, wX0_put_49, wX0_put_50, wX0_put_51, wX0_put_54, wX0_put_55, wX0_put_58, wX0_put_59, wX0_put_62, wX0_put_65, wX0_put_68, amSI_1, amSI_2, amSI_3, amSI_s, amU_at, amIsR_ref, amIsR_null, amIsR_rf, amRf_some, amRf_none, amClr_int, amClr_ref, amClr_null, amClr_long, amClr_ra, amClr_rf, amFit_int, amFit_oref, amFit_aref, amFit_onull, amFit_anull, amOptSome, amOptNone, List.cons_append, List.nil_append, true_and, and_true, true_implies, not_true_eq_false, not_false_eq_true, false_implies, and_self, Nat.add_zero, Nat.zero_add, ne_eq, Prod.mk.injEq, amC01_0, amC01_1, amC01_nb, amNb0, amNb1, amTcpI_d, Nat.reduceLeDiff, Nat.reduceAdd, Nat.reduceSub, Nat.reduceEqDiff, Nat.le_refl, amN0le, hR.s, hR.r, f1, f2, f3, n20, n21, eq_self, amU_ne, amU_nj]
    exact amRet.of (by decide) (by decide) key
theorem tX0_put_d {a : Nat} {w0 v0 : Int32} {h : amH} {K : Option Value → amH → Prop} : tX0_put [.ref a, .int w0, .int v0] h K = ∃ (S : HS) (w v : Nat), a = (24 : Nat) ∧ w0 = nI w ∧ v0 = nI v ∧ w < 3 ∧ rsAt h ∧ HsIs h.2.1 25 S ∧ ∀ m', HsIs m' 25 (S.setT w v) → hsFr h.2.1 m' 25 → K none (amSI h m') := rfl
def figN (S : HS) (w : Nat) : Nat := if w = 0 then S.span else if w = 1 then S.bound else S.rule
def tellR (X : XS) (w v : Int32) : XS × Int32 := if ¬ mayP w v then (X, -1) else if nI (figN X.1 w.toNatClampNeg) = v then (X, -2) else (actX X (X.1.setT w.toNatClampNeg v.toNatClampNeg), nI (figN X.1 w.toNatClampNeg))
/-- read only -/
theorem RsW.rd {h : amH} {X : XS} (w : RsW h X) {m : Nat → Nat → Int32} (f : rdFr h.2.1 m) : RsW (amSI h m) X := w.op (opFr.rd f) (w.1.2.1.kept (fun i h1 h2 => f i (by omega))) w.1.2.2.1 (w.2.2.2.1.mv (by show m 24 15 = _; rw [f 24 (by decide)]) rfl (fun i hi => f i (by unfold pastC at hi; omega))) w.2.2.2.2.1
def tX0_tell : amT := fun as h K => match as with
  | [.ref a, .int x, .int y] => ∃ X : XS, a = (24 : Nat) ∧ RsW h X ∧ ∀ h', rsFr h h' → RsW h' (tellR X x y).1 → K (some (.int (tellR X x y).2)) h'
  | _ => False
/-! ReadingStages.tell(II)I -/
def kX0_tell : Nat → Bool := fun pc => pc == 17 || pc == 30 || pc == 36
def rX0_tell : List (Nat × amS) := [(2, 2, 0, 0, tX0_mayBe), (14, 2, 0, 0, (amRecv 0 tX0_count)), (27, 1, 0, 0, (amRecv 0 tX0_note)), (33, 3, 0, 0, (amRecv 0 tX0_put))]
def eX0_tell (ret : Option Value → amH → Nat → Nat → Prop) (F : amX) : Nat → amX := amWp cX0_tell kX0_tell (amLk rX0_tell) (some .int) 0 0 ret F
def sX0_tell (ret : Option Value → amH → Nat → Nat → Prop) (F : amX) : Nat → amX := amWs cX0_tell kX0_tell (amLk rX0_tell) (some .int) 0 0 ret F
theorem wX0_tell_0 {ret F n h} {v0 v2 v3 st x} : eX0_tell ret F (n + 1) 0 [v0, .int x, v2, v3] (st) h 0 0 = (eX0_tell ret F n 1 [v0, .int x, v2, v3] (.int x :: st) h 0 0) := (amWp_dec rfl dX0_tell_0 rfl).trans rfl
theorem uX0_tell_0 {ret F n h} {v0 v2 v3 st x} : sX0_tell ret F n 0 [v0, .int x, v2, v3] (st) h 0 0 = (eX0_tell ret F n 1 [v0, .int x, v2, v3] (.int x :: st) h 0 0) := (amWs_dec dX0_tell_0 rfl).trans rfl
theorem wX0_tell_1 {ret F n h} {v0 v1 v3 st x} : eX0_tell ret F (n + 1) 1 [v0, v1, .int x, v3] (st) h 0 0 = (eX0_tell ret F n 2 [v0, v1, .int x, v3] (.int x :: st) h 0 0) := (amWp_dec rfl dX0_tell_1 rfl).trans rfl
theorem wX0_tell_2 {ret F n h} {v0 v1 v2 v3 x1 x0} : eX0_tell ret F (n + 1) 2 [v0, v1, v2, v3] (.int x1 :: .int x0 :: []) h 0 0 = (tX0_mayBe [.int x0, .int x1] h (fun v h => eX0_tell ret F n 5 [v0, v1, v2, v3] (v.toList ++ ([])) h 0 0)) := (amWp_dec rfl dX0_tell_2 rfl).trans (amS4 (Nat.le_of_ble_eq_true rfl) (Nat.le_of_ble_eq_true rfl) (Nat.le_of_ble_eq_true rfl) (Nat.le_of_ble_eq_true rfl))
theorem wX0_tell_5 {ret F n h} {v0 v1 v2 v3 st x} : eX0_tell ret F (n + 1) 5 [v0, v1, v2, v3] (.int x :: st) h 0 0 = ((¬ x = 0 → eX0_tell ret F n 10 [v0, v1, v2, v3] (st) h 0 0) ∧ (x = 0 → eX0_tell ret F n 8 [v0, v1, v2, v3] (st) h 0 0)) := (amWp_dec rfl dX0_tell_5 rfl).trans rfl
theorem wX0_tell_8 {ret F n h} {v0 v1 v2 v3 st} : eX0_tell ret F (n + 1) 8 [v0, v1, v2, v3] (st) h 0 0 = (eX0_tell ret F n 9 [v0, v1, v2, v3] (.int (-1) :: st) h 0 0) := (amWp_dec rfl dX0_tell_8 rfl).trans rfl
theorem wX0_tell_9 {ret F n h} {v0 v1 v2 v3 x} : eX0_tell ret F (n + 1) 9 [v0, v1, v2, v3] ([.int x]) h 0 0 = (ret (some (.int x)) h 0 0) := (amWp_dec rfl dX0_tell_9 rfl).trans (amTrue ⟨_, rfl, rfl⟩)
theorem wX0_tell_10 {ret F n h} {v0 v1 v2 v3 st} : eX0_tell ret F (n + 1) 10 [v0, v1, v2, v3] (st) h 0 0 = (amIsR v0 ∧ eX0_tell ret F n 11 [v0, v1, v2, v3] (v0 :: st) h 0 0) := (amWp_dec rfl dX0_tell_10 rfl).trans rfl
theorem wX0_tell_11 {ret F n h} {v0 v1 v2 v3 st} : eX0_tell ret F (n + 1) 11 [v0, v1, v2, v3] (st) h 0 0 = (eX0_tell ret F n 12 [v0, v1, v2, v3] (.int (nI 2) :: st) h 0 0) := (amWp_dec rfl dX0_tell_11 rfl).trans rfl
theorem wX0_tell_12 {ret F n h} {v0 v2 v3 st x} : eX0_tell ret F (n + 1) 12 [v0, .int x, v2, v3] (st) h 0 0 = (eX0_tell ret F n 13 [v0, .int x, v2, v3] (.int x :: st) h 0 0) := (amWp_dec rfl dX0_tell_12 rfl).trans rfl
theorem wX0_tell_13 {ret F n h} {v0 v1 v2 v3 st y x} : eX0_tell ret F (n + 1) 13 [v0, v1, v2, v3] (.int y :: .int x :: st) h 0 0 = (eX0_tell ret F n 14 [v0, v1, v2, v3] (.int (x + y) :: st) h 0 0) := (amWp_dec rfl dX0_tell_13 rfl).trans rfl
theorem wX0_tell_14 {ret F n h} {v0 v1 v2 v3 x1 x0} : eX0_tell ret F (n + 1) 14 [v0, v1, v2, v3] (.int x1 :: .ref x0 :: []) h 0 0 = (h.1 x0 = (0, 0) ∧ tX0_count [.ref x0, .int x1] h (fun v h => eX0_tell ret F n 17 [v0, v1, v2, v3] (v.toList ++ ([])) h 0 0)) := (amWp_dec rfl dX0_tell_14 rfl).trans (amS4 (Nat.le_of_ble_eq_true rfl) (Nat.le_of_ble_eq_true rfl) (Nat.le_of_ble_eq_true rfl) (Nat.le_of_ble_eq_true rfl))
theorem wX0_tell_17 {ret F n ls st h k z} : eX0_tell ret F (n + 1) 17 ls st h k z = F 17 ls st h k z := amWp_cut rfl
theorem uX0_tell_17 {ret F n h} {v0 v1 v2 v3 st x} : sX0_tell ret F n 17 [v0, v1, v2, v3] (.int x :: st) h 0 0 = (eX0_tell ret F n 18 [v0, v1, amClr v2, .int x] (st) h 0 0) := (amWs_dec dX0_tell_17 rfl).trans (amTrue (Nat.le_of_ble_eq_true rfl))
theorem wX0_tell_18 {ret F n h} {v0 v1 v2 st x} : eX0_tell ret F (n + 1) 18 [v0, v1, v2, .int x] (st) h 0 0 = (eX0_tell ret F n 19 [v0, v1, v2, .int x] (.int x :: st) h 0 0) := (amWp_dec rfl dX0_tell_18 rfl).trans rfl
theorem wX0_tell_19 {ret F n h} {v0 v1 v3 st x} : eX0_tell ret F (n + 1) 19 [v0, v1, .int x, v3] (st) h 0 0 = (eX0_tell ret F n 20 [v0, v1, .int x, v3] (.int x :: st) h 0 0) := (amWp_dec rfl dX0_tell_19 rfl).trans rfl
theorem wX0_tell_20 {ret F n h} {v0 v1 v2 v3 st y x} : eX0_tell ret F (n + 1) 20 [v0, v1, v2, v3] (.int y :: .int x :: st) h 0 0 = ((¬ x = y → eX0_tell ret F n 26 [v0, v1, v2, v3] (st) h 0 0) ∧ (x = y → eX0_tell ret F n 23 [v0, v1, v2, v3] (st) h 0 0)) := (amWp_dec rfl dX0_tell_20 rfl).trans rfl
theorem wX0_tell_23 {ret F n h} {v0 v1 v2 v3 st} : eX0_tell ret F (n + 1) 23 [v0, v1, v2, v3] (st) h 0 0 = (eX0_tell ret F n 25 [v0, v1, v2, v3] (.int (-2) :: st) h 0 0) := (amWp_dec rfl dX0_tell_23 rfl).trans rfl
theorem wX0_tell_25 {ret F n h} {v0 v1 v2 v3 x} : eX0_tell ret F (n + 1) 25 [v0, v1, v2, v3] ([.int x]) h 0 0 = (ret (some (.int x)) h 0 0) := (amWp_dec rfl dX0_tell_25 rfl).trans (amTrue ⟨_, rfl, rfl⟩)
theorem wX0_tell_26 {ret F n h} {v0 v1 v2 v3 st} : eX0_tell ret F (n + 1) 26 [v0, v1, v2, v3] (st) h 0 0 = (amIsR v0 ∧ eX0_tell ret F n 27 [v0, v1, v2, v3] (v0 :: st) h 0 0) := (amWp_dec rfl dX0_tell_26 rfl).trans rfl
theorem wX0_tell_27 {ret F n h} {v0 v1 v2 v3 x0} : eX0_tell ret F (n + 1) 27 [v0, v1, v2, v3] (.ref x0 :: []) h 0 0 = (h.1 x0 = (0, 0) ∧ tX0_note [.ref x0] h (fun v h => eX0_tell ret F n 30 [v0, v1, v2, v3] (v.toList ++ ([])) h 0 0)) := (amWp_dec rfl dX0_tell_27 rfl).trans (amS4 (Nat.le_of_ble_eq_true rfl) (Nat.le_of_ble_eq_true rfl) (Nat.le_of_ble_eq_true rfl) (Nat.le_of_ble_eq_true rfl))
theorem wX0_tell_30 {ret F n ls st h k z} : eX0_tell ret F (n + 1) 30 ls st h k z = F 30 ls st h k z := amWp_cut rfl
theorem uX0_tell_30 {ret F n h} {v0 v1 v2 v3 st} : sX0_tell ret F n 30 [v0, v1, v2, v3] (st) h 0 0 = (amIsR v0 ∧ eX0_tell ret F n 31 [v0, v1, v2, v3] (v0 :: st) h 0 0) := (amWs_dec dX0_tell_30 rfl).trans rfl
theorem wX0_tell_31 {ret F n h} {v0 v2 v3 st x} : eX0_tell ret F (n + 1) 31 [v0, .int x, v2, v3] (st) h 0 0 = (eX0_tell ret F n 32 [v0, .int x, v2, v3] (.int x :: st) h 0 0) := (amWp_dec rfl dX0_tell_31 rfl).trans rfl
theorem wX0_tell_32 {ret F n h} {v0 v1 v3 st x} : eX0_tell ret F (n + 1) 32 [v0, v1, .int x, v3] (st) h 0 0 = (eX0_tell ret F n 33 [v0, v1, .int x, v3] (.int x :: st) h 0 0) := (amWp_dec rfl dX0_tell_32 rfl).trans rfl
theorem wX0_tell_33 {ret F n h} {v0 v1 v2 v3 x2 x1 x0} : eX0_tell ret F (n + 1) 33 [v0, v1, v2, v3] (.int x2 :: .int x1 :: .ref x0 :: []) h 0 0 = (h.1 x0 = (0, 0) ∧ tX0_put [.ref x0, .int x1, .int x2] h (fun v h => eX0_tell ret F n 36 [v0, v1, v2, v3] (v.toList ++ ([])) h 0 0)) := (amWp_dec rfl dX0_tell_33 rfl).trans (amS4 (Nat.le_of_ble_eq_true rfl) (Nat.le_of_ble_eq_true rfl) (Nat.le_of_ble_eq_true rfl) (Nat.le_of_ble_eq_true rfl))
theorem wX0_tell_36 {ret F n ls st h k z} : eX0_tell ret F (n + 1) 36 ls st h k z = F 36 ls st h k z := amWp_cut rfl
theorem uX0_tell_36 {ret F n h} {v0 v1 v2 st x} : sX0_tell ret F n 36 [v0, v1, v2, .int x] (st) h 0 0 = (eX0_tell ret F n 37 [v0, v1, v2, .int x] (.int x :: st) h 0 0) := (amWs_dec dX0_tell_36 rfl).trans rfl
theorem wX0_tell_37 {ret F n h} {v0 v1 v2 v3 x} : eX0_tell ret F (n + 1) 37 [v0, v1, v2, v3] ([.int x]) h 0 0 = (ret (some (.int x)) h 0 0) := (amWp_dec rfl dX0_tell_37 rfl).trans (amTrue ⟨_, rfl, rfl⟩)
theorem evX0_tell (l : Launch) (G : amG) : ∀ pc S i sz, amLk rX0_tell pc = some S → decode cX0_tell pc = .ok (i, sz) → amSiteP pc G l yX0_tell.cls yX0_tell.name yX0_tell.desc (amRm 8 0 0) i sz S.1 S.2.1 S.2.2.1 S.2.2.2 := amLk_ok (by
  refine List.forall_mem_cons.mpr ⟨⟨_, _, dX0_tell_2, amSite.P (amSiteS (metX0_mayBe l G) rfl (by decide) (by decide) (lw_S q934 q935 q86 q936) ⟨by decide +kernel, by decide +kernel, by decide +kernel⟩)⟩, ?_⟩
  refine List.forall_mem_cons.mpr ⟨⟨_, _, dX0_tell_14, amSite.P (amSiteV (C := RX0) (metX0_count l G) rfl (by decide) (by decide) (lw_V q940 q575 q576 q86 q577) ⟨_, rfl, rfl⟩ ⟨rfl, by decide +kernel, by decide +kernel, by decide +kernel⟩)⟩, ?_⟩
  refine List.forall_mem_cons.mpr ⟨⟨_, _, dX0_tell_27, amSite.P (amSiteV (C := RX0) (metX0_note l G) rfl (by decide) (by decide) (lw_V q881 q883 qs24 q86 q884) ⟨_, rfl, rfl⟩ ⟨rfl, by decide +kernel, by decide +kernel, by decide +kernel⟩)⟩, ?_⟩
  refine List.forall_mem_cons.mpr ⟨⟨_, _, dX0_tell_33, amSite.P (amSiteV (C := RX0) (metX0_put l G) rfl (by decide) (by decide) (lw_V q941 q943 qs25 q86 q944) ⟨_, rfl, rfl⟩ ⟨rfl, by decide +kernel, by decide +kernel, by decide +kernel⟩)⟩, ?_⟩
  exact fun _ h => absurd h List.not_mem_nil)
theorem goX0_tell {ret F} (hF : amCld cX0_tell kX0_tell (amLk rX0_tell) (some .int) 0 0 ret F) (n : Nat) {pc ls st h k z} (q : sX0_tell ret F n pc ls st h k z) : F pc ls st h k z := hF.1 n pc ls st h k z q
theorem metX0_tell (l : Launch) (G : amG) : amMet l G yX0_tell (ws_ yX0_tell cX0_tell 4 (some .int)) 8 0 0 tX0_tell := by
  refine amMet_of (cut := kX0_tell) (by decide +kernel) (evX0_tell l G) ?_
  intro as h K hT
  match as, hT with
  | [.ref a, .int x, .int y], ⟨X, e1, w, hK⟩ =>
  refine ⟨Nat.le_of_ble_eq_true rfl, fun F hF => ?_⟩
  show F 0 [.ref a, .int x, .int y, .retAddr 0] [] h 0 0
  obtain ⟨a, rfl⟩ : ∃ i : Nat, i = a := ⟨_, rfl⟩
  subst e1
  have hR := w.1.1
  have hS := w.1.2.1
  have hO := w.1.2.2.1
  have hN := w.1.2.2.2
  have key := hK
  by_cases q : mayP x y
  · obtain ⟨a, b, rfl, rfl, hab⟩ := mayP_N q
    have a3 : a < 3 := by rcases hab with z | z | z <;> omega
    have b20 : b ≤ 20 := by rcases hab with z | z | z <;> omega
    rw [tellR, if_neg (fun z => z q), amCl_nI (by omega), amCl_nI (by omega)] at key
    have cv : countV X.1 X.2.1.length (nI (2 + a)) = nI (figN X.1 a) := by
      rcases (show a = 0 ∨ a = 1 ∨ a = 2 by omega) with e | e | e
      · subst e; rfl
      · subst e; rfl
      · subst e; rfl
    refine goX0_tell hF 60 ?_
    simp (disch := omega) only [wX0_tell_0, uX0_tell_0, wX0_tell_1, wX0_tell_2, wX0_tell_5, wX0_tell_8, wX0_tell_9, wX0_tell_10, wX0_tell_11, wX0_tell_12, wX0_tell_13, wX0_tell_14, wX0_tell_17, uX0_tell_17, wX0_tell_18, wX0_tell_19, wX0_tell_20, wX0_tell_23, wX0_tell_25, wX0_tell_26, wX0_tell_27, wX0_tell_30, uX0_tell_30, wX0_tell_31, wX0_tell_32, wX0_tell_33, wX0_tell_36, uX0_tell_36, wX0_tell_37, amSI_1, amSI_2, amSI_3, amSI_s, amU_at, amIsR_ref, amIsR_null, amIsR_rf, amRf_some, amRf_none, amClr_int, amClr_ref, amClr_null, amClr_long, amClr_ra, amClr_rf, amFit_int, amFit_oref, amFit_aref, amFit_onull, amFit_anull, amOptSome, amOptNone, List.cons_append, List.nil_append, true_and, and_true, true_implies, not_true_eq_false, not_false_eq_true, false_implies, and_self, Nat.add_zero, Nat.zero_add, ne_eq, Prod.mk.injEq, amC01_0, amC01_1, amC01_nb, amNb0, amNb1, amTcpI_d, Nat.reduceLeDiff, Nat.reduceAdd, Nat.reduceSub, Nat.reduceEqDiff, Nat.le_refl, amN0le, hR.s, hR.r, tX0_mayBe_d, amAdd, tX0_count_d]
    refine ⟨fun _ => ⟨X.1, X.2.1.length, w.1, w.2.2.2.1.2.1, fun m' f => ?_⟩, fun z => absurd q z⟩
    rw [cv]
    have w2 := w.rd f
    have fo := opFr.rd f
    refine goX0_tell hF 60 ?_
    simp (disch := omega) only [wX0_tell_0, uX0_tell_0, wX0_tell_1, wX0_tell_2, wX0_tell_5, wX0_tell_8, wX0_tell_9, wX0_tell_10, wX0_tell_11, wX0_tell_12, wX0_tell_13, wX0_tell_14, wX0_tell_17, uX0_tell_17, wX0_tell_18, wX0_tell_19, wX0_tell_20, wX0_tell_23, wX0_tell_25, wX0_tell_26, wX0_tell_27, wX0_tell_30, uX0_tell_30, wX0_tell_31, wX0_tell_32, wX0_tell_33, wX0_tell_36, uX0_tell_36, wX0_tell_37, amSI_1, amSI_2, amSI_3, amSI_s, amU_at, amIsR_ref, amIsR_null, amIsR_rf, amRf_some, amRf_none, amClr_int, amClr_ref, amClr_null, amClr_long, amClr_ra, amClr_rf, amFit_int, amFit_oref, amFit_aref, amFit_onull, amFit_anull, amOptSome, amOptNone, List.cons_append, List.nil_append, true_and, and_true, true_implies, not_true_eq_false, not_false_eq_true, false_implies, and_self, Nat.add_zero, Nat.zero_add, ne_eq, Prod.mk.injEq, amC01_0, amC01_1, amC01_nb, amNb0, amNb1, amTcpI_d, Nat.reduceLeDiff, Nat.reduceAdd, Nat.reduceSub, Nat.reduceEqDiff, Nat.le_refl, amN0le, hR.s, hR.r]
    refine ⟨fun q2 => note_of w2 (fun h1 f1 hR1 _ hS1 hU1 => ?_), fun q2 => ?_⟩
    · rw [if_neg q2] at key
      have hR := hR1
      refine goX0_tell hF 60 ?_
      simp (disch := omega) only [wX0_tell_0, uX0_tell_0, wX0_tell_1, wX0_tell_2, wX0_tell_5, wX0_tell_8, wX0_tell_9, wX0_tell_10, wX0_tell_11, wX0_tell_12, wX0_tell_13, wX0_tell_14, wX0_tell_17, uX0_tell_17, wX0_tell_18, wX0_tell_19, wX0_tell_20, wX0_tell_23, wX0_tell_25, wX0_tell_26, wX0_tell_27, wX0_tell_30, uX0_tell_30, wX0_tell_31, wX0_tell_32, wX0_tell_33, wX0_tell_36, uX0_tell_36, wX0_tell_37, amSI_1, amSI_2, amSI_3, amSI_s, amU_at, amIsR_ref, amIsR_null, amIsR_rf, amRf_some, amRf_none, amClr_int, amClr_ref, amClr_null, amClr_long, amClr_ra, amClr_rf, amFit_int, amFit_oref, amFit_aref, amFit_onull, amFit_anull, amOptSome, amOptNone, List.cons_append, List.nil_append, true_and, and_true, true_implies, not_true_eq_false, not_false_eq_true, false_implies, and_self, Nat.add_zero, Nat.zero_add, ne_eq, Prod.mk.injEq, amC01_0, amC01_1, amC01_nb, amNb0, amNb1, amTcpI_d, Nat.reduceLeDiff, Nat.reduceAdd, Nat.reduceSub, Nat.reduceEqDiff, Nat.le_refl, amN0le, hR.s, hR.r, tX0_put_d]
      refine ⟨X.1, a, b, rfl, rfl, a3, hR1, hS1, fun m2 p1 p2 => ?_⟩
      obtain ⟨g1, g2⟩ := w2.act f1 hU1 rfl p2 p1 (hO.setT hab)
      have key := key _ ⟨Nat.le_trans (fo.rs hN).1 g1.1, fun i i1 i2 => ((fo.rs hN).2 i i1 i2).tr (g1.2 i i1 i2)⟩ g2
      refine goX0_tell hF 60 ?_
      simp (disch := omega) only [wX0_tell_0, uX0_tell_0, wX0_tell_1, wX0_tell_2, wX0_tell_5, wX0_tell_8, wX0_tell_9, wX0_tell_10, wX0_tell_11, wX0_tell_12, wX0_tell_13, wX0_tell_14, wX0_tell_17, uX0_tell_17, wX0_tell_18, wX0_tell_19, wX0_tell_20, wX0_tell_23, wX0_tell_25, wX0_tell_26, wX0_tell_27, wX0_tell_30, uX0_tell_30, wX0_tell_31, wX0_tell_32, wX0_tell_33, wX0_tell_36, uX0_tell_36, wX0_tell_37, amSI_1, amSI_2, amSI_3, amSI_s, amU_at, amIsR_ref, amIsR_null, amIsR_rf, amRf_some, amRf_none, amClr_int, amClr_ref, amClr_null, amClr_long, amClr_ra, amClr_rf, amFit_int, amFit_oref, amFit_aref, amFit_onull, amFit_anull, amOptSome, amOptNone, List.cons_append, List.nil_append, true_and, and_true, true_implies, not_true_eq_false, not_false_eq_true, false_implies, and_self, Nat.add_zero, Nat.zero_add, ne_eq, Prod.mk.injEq, amC01_0, amC01_1, amC01_nb, amNb0, amNb1, amTcpI_d, Nat.reduceLeDiff, Nat.reduceAdd, Nat.reduceSub, Nat.reduceEqDiff, Nat.le_refl, amN0le, hR.s, hR.r]
      exact amRet.of (by decide) (by decide) key
    · rw [if_pos q2] at key
      exact amRet.of (by decide) (by decide) (key _ (fo.rs hN) w2)
  · rw [tellR, if_pos q] at key
    refine goX0_tell hF 60 ?_
    simp (disch := omega) only [wX0_tell_0, uX0_tell_0, wX0_tell_1, wX0_tell_2, wX0_tell_5, wX0_tell_8, wX0_tell_9, wX0_tell_10, wX0_tell_11, wX0_tell_12, wX0_tell_13, wX0_tell_14, wX0_tell_17, uX0_tell_17, wX0_tell_18, wX0_tell_19, wX0_tell_20, wX0_tell_23, wX0_tell_25, wX0_tell_26, wX0_tell_27, wX0_tell_30, uX0_tell_30, wX0_tell_31, wX0_tell_32, wX0_tell_33, wX0_tell_36, uX0_tell_36, wX0_tell_37, amSI_1, amSI_2, amSI_3, amSI_s, amU_at, amIsR_ref, amIsR_null, amIsR_rf, amRf_some, amRf_none, amClr_int, amClr_ref, amClr_null, amClr_long, amClr_ra, amClr_rf, amFit_int, amFit_oref, amFit_aref, amFit_onull, amFit_anull, amOptSome, amOptNone, List.cons_append, List.nil_append, true_and, and_true, true_implies, not_true_eq_false, not_false_eq_true, false_implies, and_self, Nat.add_zero, Nat.zero_add, ne_eq, Prod.mk.injEq, amC01_0, amC01_1, amC01_nb, amNb0, amNb1, amTcpI_d, Nat.reduceLeDiff, Nat.reduceAdd, Nat.reduceSub, Nat.reduceEqDiff, Nat.le_refl, amN0le, hR.s, hR.r, tX0_mayBe_d]
    exact ⟨fun z => absurd (Classical.not_not.mp z) q, fun _ => amRet.of (by decide) (by decide) (key h (rsFr.rf h) w)⟩
theorem tX0_tell_d {a : Nat} {x y : Int32} {h : amH} {K : Option Value → amH → Prop} : tX0_tell [.ref a, .int x, .int y] h K = ∃ X : XS, a = (24 : Nat) ∧ RsW h X ∧ ∀ h', rsFr h h' → RsW h' (tellR X x y).1 → K (some (.int (tellR X x y).2)) h' := rfl
theorem lcg_ex : ∃ f : Nat → Nat, ∀ d, f d = (d * 1103515245 + 12345) % 2147483648 := ⟨_, fun _ => rfl⟩
/-- the next draw (chosen, so that nothing computes it by itself) -/
noncomputable def lcgN : Nat → Nat := Classical.choose lcg_ex
theorem lcgN_eq (d : Nat) : lcgN d = (d * 1103515245 + 12345) % 2147483648 := Classical.choose_spec lcg_ex d
theorem lcgN_lt (d : Nat) : lcgN d < 2147483648 := by rw [lcgN_eq]; exact Nat.mod_lt _ (by decide)
