/-! the JDK's StringBuilder: numbers, letters; made, and read off -/
set_option maxRecDepth 100000
theorem amWrR1 {h : amH} {a f b : Nat} : (amWr h a f (.ref b)).1 = h.1 := rfl
theorem amWrR2 {h : amH} {a f b : Nat} : (amWr h a f (.ref b)).2.1 = h.2.1 := rfl
theorem amFitB0 : amFit .byte (.int (nI 0)) = True := eq_true ⟨rfl, by decide, by decide⟩
theorem negF : ∀ v, v < 100 → (-nI v ≤ -10 ↔ 10 ≤ v) ∧ ¬ (-nI v ≤ -100) ∧ (-9 ≤ -nI v ↔ v ≤ 9) ∧ -100 < -nI v := by decide +kernel
theorem digL_lt (v : Nat) (hv : v ≤ 99) : ∀ c ∈ digL v, c < 128 := by
  intro c hc
  unfold digL at hc
  split at hc
  · rcases List.mem_cons.mp hc with e | e
    · omega
    · rw [List.mem_singleton.mp e]; omega
  · rw [List.mem_singleton.mp hc]; omega
def tJ2_stringSize : amT := fun as h K => match as with
  | [.int x] => ∃ v : Nat, x = nI v ∧ v ≤ 99 ∧ K (some (.int (nI (digL v).length))) h
  | _ => False
/-! java/lang/Integer.stringSize(I)I -/
def kJ2_stringSize : Nat → Bool := fun pc => false
def rJ2_stringSize : List (Nat × amS) := []
def eJ2_stringSize (ret : Option Value → amH → Nat → Nat → Prop) (F : amX) : Nat → amX := amWp cJ2_stringSize kJ2_stringSize (amLk rJ2_stringSize) (some .int) 0 0 ret F
def sJ2_stringSize (ret : Option Value → amH → Nat → Nat → Prop) (F : amX) : Nat → amX := amWs cJ2_stringSize kJ2_stringSize (amLk rJ2_stringSize) (some .int) 0 0 ret F
theorem wJ2_stringSize_0 {ret F n h} {v0 v1 v2 v3 st} : eJ2_stringSize ret F (n + 1) 0 [v0, v1, v2, v3] (st) h 0 0 = (eJ2_stringSize ret F n 1 [v0, v1, v2, v3] (.int (nI 1) :: st) h 0 0) := (amWp_dec rfl dJ2_stringSize_0 rfl).trans rfl
theorem uJ2_stringSize_0 {ret F n h} {v0 v1 v2 v3 st} : sJ2_stringSize ret F n 0 [v0, v1, v2, v3] (st) h 0 0 = (eJ2_stringSize ret F n 1 [v0, v1, v2, v3] (.int (nI 1) :: st) h 0 0) := (amWs_dec dJ2_stringSize_0 rfl).trans rfl
theorem wJ2_stringSize_1 {ret F n h} {v0 v1 v2 v3 st x} : eJ2_stringSize ret F (n + 1) 1 [v0, v1, v2, v3] (.int x :: st) h 0 0 = (eJ2_stringSize ret F n 2 [amClr v0, .int x, v2, v3] (st) h 0 0) := (amWp_dec rfl dJ2_stringSize_1 rfl).trans (amTrue (Nat.le_of_ble_eq_true rfl))
theorem wJ2_stringSize_2 {ret F n h} {v1 v2 v3 st x} : eJ2_stringSize ret F (n + 1) 2 [.int x, v1, v2, v3] (st) h 0 0 = (eJ2_stringSize ret F n 3 [.int x, v1, v2, v3] (.int x :: st) h 0 0) := (amWp_dec rfl dJ2_stringSize_2 rfl).trans rfl
theorem wJ2_stringSize_3 {ret F n h} {v0 v1 v2 v3 st x} : eJ2_stringSize ret F (n + 1) 3 [v0, v1, v2, v3] (.int x :: st) h 0 0 = ((x < 0 → eJ2_stringSize ret F n 11 [v0, v1, v2, v3] (st) h 0 0) ∧ (¬ x < 0 → eJ2_stringSize ret F n 6 [v0, v1, v2, v3] (st) h 0 0)) := (amWp_dec rfl dJ2_stringSize_3 rfl).trans rfl
theorem wJ2_stringSize_6 {ret F n h} {v0 v1 v2 v3 st} : eJ2_stringSize ret F (n + 1) 6 [v0, v1, v2, v3] (st) h 0 0 = (eJ2_stringSize ret F n 7 [v0, v1, v2, v3] (.int (nI 0) :: st) h 0 0) := (amWp_dec rfl dJ2_stringSize_6 rfl).trans rfl
theorem wJ2_stringSize_7 {ret F n h} {v0 v1 v2 v3 st x} : eJ2_stringSize ret F (n + 1) 7 [v0, v1, v2, v3] (.int x :: st) h 0 0 = (eJ2_stringSize ret F n 8 [amClr v0, .int x, v2, v3] (st) h 0 0) := (amWp_dec rfl dJ2_stringSize_7 rfl).trans (amTrue (Nat.le_of_ble_eq_true rfl))
theorem wJ2_stringSize_8 {ret F n h} {v1 v2 v3 st x} : eJ2_stringSize ret F (n + 1) 8 [.int x, v1, v2, v3] (st) h 0 0 = (eJ2_stringSize ret F n 9 [.int x, v1, v2, v3] (.int x :: st) h 0 0) := (amWp_dec rfl dJ2_stringSize_8 rfl).trans rfl
theorem wJ2_stringSize_9 {ret F n h} {v0 v1 v2 v3 st x} : eJ2_stringSize ret F (n + 1) 9 [v0, v1, v2, v3] (.int x :: st) h 0 0 = (eJ2_stringSize ret F n 10 [v0, v1, v2, v3] (.int (-x) :: st) h 0 0) := (amWp_dec rfl dJ2_stringSize_9 rfl).trans rfl
theorem wJ2_stringSize_10 {ret F n h} {v0 v1 v2 v3 st x} : eJ2_stringSize ret F (n + 1) 10 [v0, v1, v2, v3] (.int x :: st) h 0 0 = (eJ2_stringSize ret F n 11 [.int x, v1, v2, v3] (st) h 0 0) := (amWp_dec rfl dJ2_stringSize_10 rfl).trans (amTrue (Nat.le_of_ble_eq_true rfl))
theorem wJ2_stringSize_11 {ret F n h} {v0 v1 v2 v3 st} : eJ2_stringSize ret F (n + 1) 11 [v0, v1, v2, v3] (st) h 0 0 = (eJ2_stringSize ret F n 13 [v0, v1, v2, v3] (.int (-10) :: st) h 0 0) := (amWp_dec rfl dJ2_stringSize_11 rfl).trans rfl
theorem wJ2_stringSize_13 {ret F n h} {v0 v1 v2 v3 st x} : eJ2_stringSize ret F (n + 1) 13 [v0, v1, v2, v3] (.int x :: st) h 0 0 = (eJ2_stringSize ret F n 14 [v0, amClr v1, .int x, v3] (st) h 0 0) := (amWp_dec rfl dJ2_stringSize_13 rfl).trans (amTrue (Nat.le_of_ble_eq_true rfl))
theorem wJ2_stringSize_14 {ret F n h} {v0 v1 v2 v3 st} : eJ2_stringSize ret F (n + 1) 14 [v0, v1, v2, v3] (st) h 0 0 = (eJ2_stringSize ret F n 15 [v0, v1, v2, v3] (.int (nI 1) :: st) h 0 0) := (amWp_dec rfl dJ2_stringSize_14 rfl).trans rfl
theorem wJ2_stringSize_15 {ret F n h} {v0 v1 v2 v3 st x} : eJ2_stringSize ret F (n + 1) 15 [v0, v1, v2, v3] (.int x :: st) h 0 0 = (eJ2_stringSize ret F n 16 [v0, v1, amClr v2, .int x] (st) h 0 0) := (amWp_dec rfl dJ2_stringSize_15 rfl).trans (amTrue (Nat.le_of_ble_eq_true rfl))
theorem wJ2_stringSize_16 {ret F n h} {v0 v1 v2 st x} : eJ2_stringSize ret F (n + 1) 16 [v0, v1, v2, .int x] (st) h 0 0 = (eJ2_stringSize ret F n 17 [v0, v1, v2, .int x] (.int x :: st) h 0 0) := (amWp_dec rfl dJ2_stringSize_16 rfl).trans rfl
theorem wJ2_stringSize_17 {ret F n h} {v0 v1 v2 v3 st} : eJ2_stringSize ret F (n + 1) 17 [v0, v1, v2, v3] (st) h 0 0 = (eJ2_stringSize ret F n 19 [v0, v1, v2, v3] (.int (nI 10) :: st) h 0 0) := (amWp_dec rfl dJ2_stringSize_17 rfl).trans rfl
theorem wJ2_stringSize_19 {ret F n h} {v0 v1 v2 v3 st y x} : eJ2_stringSize ret F (n + 1) 19 [v0, v1, v2, v3] (.int y :: .int x :: st) h 0 0 = ((y ≤ x → eJ2_stringSize ret F n 42 [v0, v1, v2, v3] (st) h 0 0) ∧ (¬ y ≤ x → eJ2_stringSize ret F n 22 [v0, v1, v2, v3] (st) h 0 0)) := (amWp_dec rfl dJ2_stringSize_19 rfl).trans rfl
theorem wJ2_stringSize_22 {ret F n h} {v1 v2 v3 st x} : eJ2_stringSize ret F (n + 1) 22 [.int x, v1, v2, v3] (st) h 0 0 = (eJ2_stringSize ret F n 23 [.int x, v1, v2, v3] (.int x :: st) h 0 0) := (amWp_dec rfl dJ2_stringSize_22 rfl).trans rfl
theorem wJ2_stringSize_23 {ret F n h} {v0 v1 v3 st x} : eJ2_stringSize ret F (n + 1) 23 [v0, v1, .int x, v3] (st) h 0 0 = (eJ2_stringSize ret F n 24 [v0, v1, .int x, v3] (.int x :: st) h 0 0) := (amWp_dec rfl dJ2_stringSize_23 rfl).trans rfl
theorem wJ2_stringSize_24 {ret F n h} {v0 v1 v2 v3 st y x} : eJ2_stringSize ret F (n + 1) 24 [v0, v1, v2, v3] (.int y :: .int x :: st) h 0 0 = ((x ≤ y → eJ2_stringSize ret F n 31 [v0, v1, v2, v3] (st) h 0 0) ∧ (¬ x ≤ y → eJ2_stringSize ret F n 27 [v0, v1, v2, v3] (st) h 0 0)) := (amWp_dec rfl dJ2_stringSize_24 rfl).trans rfl
theorem wJ2_stringSize_27 {ret F n h} {v0 v1 v2 st x} : eJ2_stringSize ret F (n + 1) 27 [v0, v1, v2, .int x] (st) h 0 0 = (eJ2_stringSize ret F n 28 [v0, v1, v2, .int x] (.int x :: st) h 0 0) := (amWp_dec rfl dJ2_stringSize_27 rfl).trans rfl
theorem wJ2_stringSize_28 {ret F n h} {v0 v2 v3 st x} : eJ2_stringSize ret F (n + 1) 28 [v0, .int x, v2, v3] (st) h 0 0 = (eJ2_stringSize ret F n 29 [v0, .int x, v2, v3] (.int x :: st) h 0 0) := (amWp_dec rfl dJ2_stringSize_28 rfl).trans rfl
theorem wJ2_stringSize_29 {ret F n h} {v0 v1 v2 v3 st y x} : eJ2_stringSize ret F (n + 1) 29 [v0, v1, v2, v3] (.int y :: .int x :: st) h 0 0 = (eJ2_stringSize ret F n 30 [v0, v1, v2, v3] (.int (x + y) :: st) h 0 0) := (amWp_dec rfl dJ2_stringSize_29 rfl).trans rfl
theorem wJ2_stringSize_30 {ret F n h} {v0 v1 v2 v3 x} : eJ2_stringSize ret F (n + 1) 30 [v0, v1, v2, v3] ([.int x]) h 0 0 = (ret (some (.int x)) h 0 0) := (amWp_dec rfl dJ2_stringSize_30 rfl).trans (amTrue ⟨_, rfl, rfl⟩)
theorem wJ2_stringSize_31 {ret F n h} {v0 v1 v2 v3 st} : eJ2_stringSize ret F (n + 1) 31 [v0, v1, v2, v3] (st) h 0 0 = (eJ2_stringSize ret F n 33 [v0, v1, v2, v3] (.int (nI 10) :: st) h 0 0) := (amWp_dec rfl dJ2_stringSize_31 rfl).trans rfl
theorem wJ2_stringSize_33 {ret F n h} {v0 v1 v3 st x} : eJ2_stringSize ret F (n + 1) 33 [v0, v1, .int x, v3] (st) h 0 0 = (eJ2_stringSize ret F n 34 [v0, v1, .int x, v3] (.int x :: st) h 0 0) := (amWp_dec rfl dJ2_stringSize_33 rfl).trans rfl
theorem wJ2_stringSize_34 {ret F n h} {v0 v1 v2 v3 st y x} : eJ2_stringSize ret F (n + 1) 34 [v0, v1, v2, v3] (.int y :: .int x :: st) h 0 0 = (eJ2_stringSize ret F n 35 [v0, v1, v2, v3] (.int (x * y) :: st) h 0 0) := (amWp_dec rfl dJ2_stringSize_34 rfl).trans rfl
theorem wJ2_stringSize_35 {ret F n h} {v0 v1 v2 v3 st x} : eJ2_stringSize ret F (n + 1) 35 [v0, v1, v2, v3] (.int x :: st) h 0 0 = (eJ2_stringSize ret F n 36 [v0, amClr v1, .int x, v3] (st) h 0 0) := (amWp_dec rfl dJ2_stringSize_35 rfl).trans (amTrue (Nat.le_of_ble_eq_true rfl))
theorem wJ2_stringSize_36 {ret F n h} {v0 v1 v2 st x} : eJ2_stringSize ret F (n + 1) 36 [v0, v1, v2, .int x] (st) h 0 0 = (eJ2_stringSize ret F n 39 [v0, v1, amClr v2, .int (x + nI 1)] (st) h 0 0) := (amWp_dec rfl dJ2_stringSize_36 rfl).trans rfl
theorem wJ2_stringSize_39 {ret F n h} {v0 v1 v2 v3 st} : eJ2_stringSize ret F (n + 1) 39 [v0, v1, v2, v3] (st) h 0 0 = (eJ2_stringSize ret F n 16 [v0, v1, v2, v3] (st) h 0 0) := (amWp_dec rfl dJ2_stringSize_39 rfl).trans rfl
theorem wJ2_stringSize_42 {ret F n h} {v0 v1 v2 v3 st} : eJ2_stringSize ret F (n + 1) 42 [v0, v1, v2, v3] (st) h 0 0 = (eJ2_stringSize ret F n 44 [v0, v1, v2, v3] (.int (nI 10) :: st) h 0 0) := (amWp_dec rfl dJ2_stringSize_42 rfl).trans rfl
theorem wJ2_stringSize_44 {ret F n h} {v0 v2 v3 st x} : eJ2_stringSize ret F (n + 1) 44 [v0, .int x, v2, v3] (st) h 0 0 = (eJ2_stringSize ret F n 45 [v0, .int x, v2, v3] (.int x :: st) h 0 0) := (amWp_dec rfl dJ2_stringSize_44 rfl).trans rfl
theorem wJ2_stringSize_45 {ret F n h} {v0 v1 v2 v3 st y x} : eJ2_stringSize ret F (n + 1) 45 [v0, v1, v2, v3] (.int y :: .int x :: st) h 0 0 = (eJ2_stringSize ret F n 46 [v0, v1, v2, v3] (.int (x + y) :: st) h 0 0) := (amWp_dec rfl dJ2_stringSize_45 rfl).trans rfl
theorem wJ2_stringSize_46 {ret F n h} {v0 v1 v2 v3 x} : eJ2_stringSize ret F (n + 1) 46 [v0, v1, v2, v3] ([.int x]) h 0 0 = (ret (some (.int x)) h 0 0) := (amWp_dec rfl dJ2_stringSize_46 rfl).trans (amTrue ⟨_, rfl, rfl⟩)
theorem evJ2_stringSize (l : Launch) (G : amG) : ∀ pc S i sz, amLk rJ2_stringSize pc = some S → decode cJ2_stringSize pc = .ok (i, sz) → amSiteP pc G l yJ2_stringSize.cls yJ2_stringSize.name yJ2_stringSize.desc (amRm 1 0 0) i sz S.1 S.2.1 S.2.2.1 S.2.2.2 := amLk_ok (by
  exact fun _ h => absurd h List.not_mem_nil)
theorem goJ2_stringSize {ret F} (hF : amCld cJ2_stringSize kJ2_stringSize (amLk rJ2_stringSize) (some .int) 0 0 ret F) (n : Nat) {pc ls st h k z} (q : sJ2_stringSize ret F n pc ls st h k z) : F pc ls st h k z := hF.1 n pc ls st h k z q
theorem metJ2_stringSize (l : Launch) (G : amG) : amMet l G yJ2_stringSize (ws_ yJ2_stringSize cJ2_stringSize 4 (some .int)) 1 0 0 tJ2_stringSize := by
  refine amMet_of (cut := kJ2_stringSize) (by decide +kernel) (evJ2_stringSize l G) ?_
  intro as h K hT
  match as, hT with
  | [.int x], ⟨v, e, hv, hK⟩ =>
  refine ⟨Nat.le_of_ble_eq_true rfl, fun F hF => ?_⟩
  show F 0 [.int x, .retAddr 0, .retAddr 0, .retAddr 0] [] h 0 0
  subst e
  obtain ⟨f1, f2, f3, f4⟩ := negF v (by omega)
  have f2' : (-nI v ≤ -100) = False := eq_false f2
  have p10 : nI 10 * -10 = -100 := by decide
  refine goJ2_stringSize hF 60 ?_
  by_cases c : 10 ≤ v
  · have f1' : (-nI v ≤ -10) = True := eq_true (f1.mpr c)
    have e2 : (digL v).length = 2 := by unfold digL; rw [if_pos (by omega)]; rfl
    rw [e2] at hK
    simp (disch := omega) only [wJ2_stringSize_0, uJ2_stringSize_0, wJ2_stringSize_1, wJ2_stringSize_2, wJ2_stringSize_3, wJ2_stringSize_6, wJ2_stringSize_7, wJ2_stringSize_8, wJ2_stringSize_9, wJ2_stringSize_10, wJ2_stringSize_11, wJ2_stringSize_13, wJ2_stringSize_14, wJ2_stringSize_15, wJ2_stringSize_16, wJ2_stringSize_17, wJ2_stringSize_19, wJ2_stringSize_22, wJ2_stringSize_23, wJ2_stringSize_24, wJ2_stringSize_27, wJ2_stringSize_28, wJ2_stringSize_29, wJ2_stringSize_30, wJ2_stringSize_31, wJ2_stringSize_33, wJ2_stringSize_34, wJ2_stringSize_35, wJ2_stringSize_36, wJ2_stringSize_39, wJ2_stringSize_42, wJ2_stringSize_44, wJ2_stringSize_45, wJ2_stringSize_46, amSI_1, amSI_2, amSI_3, amSI_s, amU_at, amIsR_ref, amIsR_null, amIsR_rf, amRf_some, amRf_none, amClr_int, amClr_ref, amClr_null, amClr_long, amClr_ra, amClr_rf, amFit_int, amFit_oref, amFit_aref, amFit_onull, amFit_anull, amOptSome, amOptNone, List.cons_append, List.nil_append, true_and, and_true, true_implies, not_true_eq_false, not_false_eq_true, false_implies, and_self, Nat.add_zero, Nat.zero_add, ne_eq, Prod.mk.injEq, amC01_0, amC01_1, amC01_nb, amNb0, amNb1, amTcpI_d, Nat.reduceLeDiff, Nat.reduceAdd, Nat.reduceSub, Nat.reduceEqDiff, Nat.le_refl, amN0le, amLeI, amLtI, amEqI, amLe0, amGt0, amEq0, amNotPosI, amGe0, amVI, amCl_nI, amAdd, amSub, amMul, f1', f2', p10]
    exact amRet.of (by decide) (by decide) hK
  · have f1' : (-nI v ≤ -10) = False := eq_false (fun z => c (f1.mp z))
    have e2 : (digL v).length = 1 := by unfold digL; rw [if_neg (by omega)]; rfl
    rw [e2] at hK
    simp (disch := omega) only [wJ2_stringSize_0, uJ2_stringSize_0, wJ2_stringSize_1, wJ2_stringSize_2, wJ2_stringSize_3, wJ2_stringSize_6, wJ2_stringSize_7, wJ2_stringSize_8, wJ2_stringSize_9, wJ2_stringSize_10, wJ2_stringSize_11, wJ2_stringSize_13, wJ2_stringSize_14, wJ2_stringSize_15, wJ2_stringSize_16, wJ2_stringSize_17, wJ2_stringSize_19, wJ2_stringSize_22, wJ2_stringSize_23, wJ2_stringSize_24, wJ2_stringSize_27, wJ2_stringSize_28, wJ2_stringSize_29, wJ2_stringSize_30, wJ2_stringSize_31, wJ2_stringSize_33, wJ2_stringSize_34, wJ2_stringSize_35, wJ2_stringSize_36, wJ2_stringSize_39, wJ2_stringSize_42, wJ2_stringSize_44, wJ2_stringSize_45, wJ2_stringSize_46, amSI_1, amSI_2, amSI_3, amSI_s, amU_at, amIsR_ref, amIsR_null, amIsR_rf, amRf_some, amRf_none, amClr_int, amClr_ref, amClr_null, amClr_long, amClr_ra, amClr_rf, amFit_int, amFit_oref, amFit_aref, amFit_onull, amFit_anull, amOptSome, amOptNone, List.cons_append, List.nil_append, true_and, and_true, true_implies, not_true_eq_false, not_false_eq_true, false_implies, and_self, Nat.add_zero, Nat.zero_add, ne_eq, Prod.mk.injEq, amC01_0, amC01_1, amC01_nb, amNb0, amNb1, amTcpI_d, Nat.reduceLeDiff, Nat.reduceAdd, Nat.reduceSub, Nat.reduceEqDiff, Nat.le_refl, amN0le, amLeI, amLtI, amEqI, amLe0, amGt0, amEq0, amNotPosI, amGe0, amVI, amCl_nI, amAdd, amSub, amMul, f1', f2', p10]
    exact amRet.of (by decide) (by decide) hK
theorem tJ2_stringSize_d {x : Int32} {h : amH} {K : Option Value → amH → Prop} : tJ2_stringSize [.int x] h K = ∃ v : Nat, x = nI v ∧ v ≤ 99 ∧ K (some (.int (nI (digL v).length))) h := rfl
def tJ2_getChars : amT := fun as h K => match as with
  | [.int x, .int e, .ref a] => ∃ v i n : Nat, x = nI v ∧ v ≤ 99 ∧ e = nI i ∧ (digL v).length ≤ i ∧ i ≤ n ∧ n ≤ 1000 ∧ h.1 a = (2, n) ∧ 24 ≤ a ∧ ∀ m', (∀ j : Nat, j ≠ a → m' j = h.2.1 j) → (∀ q : Nat, q < i - (digL v).length → m' a q = h.2.1 a q) → (∀ q, q < (digL v).length → m' a (i - (digL v).length + q) = nI ((digL v).getD q 0)) → K (some (.int (nI (i - (digL v).length)))) (amSI h m')
  | _ => False
def tJ2_getCharsC : amT := fun as h K => amCst h ∧ tJ2_getChars as h K
/-! java/lang/Integer.getChars(II[B)I -/
def kJ2_getChars : Nat → Bool := fun pc => false
def rJ2_getChars : List (Nat × amS) := [(49, 0, 0, 0, amTcon (.ref 17)), (62, 0, 0, 0, amTcon (.ref 16)), (78, 0, 0, 0, amTcon (.ref 17)), (97, 0, 0, 0, amTcon (.ref 16))]
def eJ2_getChars (ret : Option Value → amH → Nat → Nat → Prop) (F : amX) : Nat → amX := amWp cJ2_getChars kJ2_getChars (amLk rJ2_getChars) (some .int) 0 0 ret F
def sJ2_getChars (ret : Option Value → amH → Nat → Nat → Prop) (F : amX) : Nat → amX := amWs cJ2_getChars kJ2_getChars (amLk rJ2_getChars) (some .int) 0 0 ret F
theorem wJ2_getChars_0 {ret F n h} {v0 v2 v3 v4 v5 v6 st x} : eJ2_getChars ret F (n + 1) 0 [v0, .int x, v2, v3, v4, v5, v6] (st) h 0 0 = (eJ2_getChars ret F n 1 [v0, .int x, v2, v3, v4, v5, v6] (.int x :: st) h 0 0) := (amWp_dec rfl dJ2_getChars_0 rfl).trans rfl
theorem uJ2_getChars_0 {ret F n h} {v0 v2 v3 v4 v5 v6 st x} : sJ2_getChars ret F n 0 [v0, .int x, v2, v3, v4, v5, v6] (st) h 0 0 = (eJ2_getChars ret F n 1 [v0, .int x, v2, v3, v4, v5, v6] (.int x :: st) h 0 0) := (amWs_dec dJ2_getChars_0 rfl).trans rfl
theorem wJ2_getChars_1 {ret F n h} {v0 v1 v2 v3 v4 v5 v6 st x} : eJ2_getChars ret F (n + 1) 1 [v0, v1, v2, v3, v4, v5, v6] (.int x :: st) h 0 0 = (eJ2_getChars ret F n 3 [v0, v1, v2, v3, amClr v4, .int x, v6] (st) h 0 0) := (amWp_dec rfl dJ2_getChars_1 rfl).trans (amTrue (Nat.le_of_ble_eq_true rfl))
theorem wJ2_getChars_3 {ret F n h} {v1 v2 v3 v4 v5 v6 st x} : eJ2_getChars ret F (n + 1) 3 [.int x, v1, v2, v3, v4, v5, v6] (st) h 0 0 = (eJ2_getChars ret F n 4 [.int x, v1, v2, v3, v4, v5, v6] (.int x :: st) h 0 0) := (amWp_dec rfl dJ2_getChars_3 rfl).trans rfl
theorem wJ2_getChars_4 {ret F n h} {v0 v1 v2 v3 v4 v5 v6 st x} : eJ2_getChars ret F (n + 1) 4 [v0, v1, v2, v3, v4, v5, v6] (.int x :: st) h 0 0 = ((0 ≤ x → eJ2_getChars ret F n 11 [v0, v1, v2, v3, v4, v5, v6] (st) h 0 0) ∧ (¬ 0 ≤ x → eJ2_getChars ret F n 7 [v0, v1, v2, v3, v4, v5, v6] (st) h 0 0)) := (amWp_dec rfl dJ2_getChars_4 rfl).trans rfl
theorem wJ2_getChars_7 {ret F n h} {v0 v1 v2 v3 v4 v5 v6 st} : eJ2_getChars ret F (n + 1) 7 [v0, v1, v2, v3, v4, v5, v6] (st) h 0 0 = (eJ2_getChars ret F n 8 [v0, v1, v2, v3, v4, v5, v6] (.int (nI 1) :: st) h 0 0) := (amWp_dec rfl dJ2_getChars_7 rfl).trans rfl
theorem wJ2_getChars_8 {ret F n h} {v0 v1 v2 v3 v4 v5 v6 st} : eJ2_getChars ret F (n + 1) 8 [v0, v1, v2, v3, v4, v5, v6] (st) h 0 0 = (eJ2_getChars ret F n 12 [v0, v1, v2, v3, v4, v5, v6] (st) h 0 0) := (amWp_dec rfl dJ2_getChars_8 rfl).trans rfl
theorem wJ2_getChars_11 {ret F n h} {v0 v1 v2 v3 v4 v5 v6 st} : eJ2_getChars ret F (n + 1) 11 [v0, v1, v2, v3, v4, v5, v6] (st) h 0 0 = (eJ2_getChars ret F n 12 [v0, v1, v2, v3, v4, v5, v6] (.int (nI 0) :: st) h 0 0) := (amWp_dec rfl dJ2_getChars_11 rfl).trans rfl
theorem wJ2_getChars_12 {ret F n h} {v0 v1 v2 v3 v4 v5 v6 st x} : eJ2_getChars ret F (n + 1) 12 [v0, v1, v2, v3, v4, v5, v6] (.int x :: st) h 0 0 = (eJ2_getChars ret F n 14 [v0, v1, v2, v3, v4, amClr v5, .int x] (st) h 0 0) := (amWp_dec rfl dJ2_getChars_12 rfl).trans (amTrue (Nat.le_of_ble_eq_true rfl))
theorem wJ2_getChars_14 {ret F n h} {v0 v1 v2 v3 v4 v5 st x} : eJ2_getChars ret F (n + 1) 14 [v0, v1, v2, v3, v4, v5, .int x] (st) h 0 0 = (eJ2_getChars ret F n 16 [v0, v1, v2, v3, v4, v5, .int x] (.int x :: st) h 0 0) := (amWp_dec rfl dJ2_getChars_14 rfl).trans rfl
theorem wJ2_getChars_16 {ret F n h} {v0 v1 v2 v3 v4 v5 v6 st x} : eJ2_getChars ret F (n + 1) 16 [v0, v1, v2, v3, v4, v5, v6] (.int x :: st) h 0 0 = ((¬ x = 0 → eJ2_getChars ret F n 22 [v0, v1, v2, v3, v4, v5, v6] (st) h 0 0) ∧ (x = 0 → eJ2_getChars ret F n 19 [v0, v1, v2, v3, v4, v5, v6] (st) h 0 0)) := (amWp_dec rfl dJ2_getChars_16 rfl).trans rfl
theorem wJ2_getChars_19 {ret F n h} {v1 v2 v3 v4 v5 v6 st x} : eJ2_getChars ret F (n + 1) 19 [.int x, v1, v2, v3, v4, v5, v6] (st) h 0 0 = (eJ2_getChars ret F n 20 [.int x, v1, v2, v3, v4, v5, v6] (.int x :: st) h 0 0) := (amWp_dec rfl dJ2_getChars_19 rfl).trans rfl
theorem wJ2_getChars_20 {ret F n h} {v0 v1 v2 v3 v4 v5 v6 st x} : eJ2_getChars ret F (n + 1) 20 [v0, v1, v2, v3, v4, v5, v6] (.int x :: st) h 0 0 = (eJ2_getChars ret F n 21 [v0, v1, v2, v3, v4, v5, v6] (.int (-x) :: st) h 0 0) := (amWp_dec rfl dJ2_getChars_20 rfl).trans rfl
theorem wJ2_getChars_21 {ret F n h} {v0 v1 v2 v3 v4 v5 v6 st x} : eJ2_getChars ret F (n + 1) 21 [v0, v1, v2, v3, v4, v5, v6] (.int x :: st) h 0 0 = (eJ2_getChars ret F n 22 [.int x, v1, v2, v3, v4, v5, v6] (st) h 0 0) := (amWp_dec rfl dJ2_getChars_21 rfl).trans (amTrue (Nat.le_of_ble_eq_true rfl))
theorem wJ2_getChars_22 {ret F n h} {v1 v2 v3 v4 v5 v6 st x} : eJ2_getChars ret F (n + 1) 22 [.int x, v1, v2, v3, v4, v5, v6] (st) h 0 0 = (eJ2_getChars ret F n 23 [.int x, v1, v2, v3, v4, v5, v6] (.int x :: st) h 0 0) := (amWp_dec rfl dJ2_getChars_22 rfl).trans rfl
theorem wJ2_getChars_23 {ret F n h} {v0 v1 v2 v3 v4 v5 v6 st} : eJ2_getChars ret F (n + 1) 23 [v0, v1, v2, v3, v4, v5, v6] (st) h 0 0 = (eJ2_getChars ret F n 25 [v0, v1, v2, v3, v4, v5, v6] (.int (-100) :: st) h 0 0) := (amWp_dec rfl dJ2_getChars_23 rfl).trans rfl
theorem wJ2_getChars_25 {ret F n h} {v0 v1 v2 v3 v4 v5 v6 st y x} : eJ2_getChars ret F (n + 1) 25 [v0, v1, v2, v3, v4, v5, v6] (.int y :: .int x :: st) h 0 0 = ((y < x → eJ2_getChars ret F n 72 [v0, v1, v2, v3, v4, v5, v6] (st) h 0 0) ∧ (¬ y < x → eJ2_getChars ret F n 28 [v0, v1, v2, v3, v4, v5, v6] (st) h 0 0)) := (amWp_dec rfl dJ2_getChars_25 rfl).trans rfl
theorem wJ2_getChars_28 {ret F n h} {v1 v2 v3 v4 v5 v6 st x} : eJ2_getChars ret F (n + 1) 28 [.int x, v1, v2, v3, v4, v5, v6] (st) h 0 0 = (eJ2_getChars ret F n 29 [.int x, v1, v2, v3, v4, v5, v6] (.int x :: st) h 0 0) := (amWp_dec rfl dJ2_getChars_28 rfl).trans rfl
theorem wJ2_getChars_29 {ret F n h} {v0 v1 v2 v3 v4 v5 v6 st} : eJ2_getChars ret F (n + 1) 29 [v0, v1, v2, v3, v4, v5, v6] (st) h 0 0 = (eJ2_getChars ret F n 31 [v0, v1, v2, v3, v4, v5, v6] (.int (nI 100) :: st) h 0 0) := (amWp_dec rfl dJ2_getChars_29 rfl).trans rfl
theorem wJ2_getChars_31 {ret F n h} {v0 v1 v2 v3 v4 v5 v6 st y x} : eJ2_getChars ret F (n + 1) 31 [v0, v1, v2, v3, v4, v5, v6] (.int y :: .int x :: st) h 0 0 = (¬ y = 0 ∧ eJ2_getChars ret F n 32 [v0, v1, v2, v3, v4, v5, v6] (.int (x / y) :: st) h 0 0) := (amWp_dec rfl dJ2_getChars_31 rfl).trans rfl
theorem wJ2_getChars_32 {ret F n h} {v0 v1 v2 v3 v4 v5 v6 st x} : eJ2_getChars ret F (n + 1) 32 [v0, v1, v2, v3, v4, v5, v6] (.int x :: st) h 0 0 = (eJ2_getChars ret F n 33 [v0, v1, amClr v2, .int x, v4, v5, v6] (st) h 0 0) := (amWp_dec rfl dJ2_getChars_32 rfl).trans (amTrue (Nat.le_of_ble_eq_true rfl))
theorem wJ2_getChars_33 {ret F n h} {v0 v1 v2 v4 v5 v6 st x} : eJ2_getChars ret F (n + 1) 33 [v0, v1, v2, .int x, v4, v5, v6] (st) h 0 0 = (eJ2_getChars ret F n 34 [v0, v1, v2, .int x, v4, v5, v6] (.int x :: st) h 0 0) := (amWp_dec rfl dJ2_getChars_33 rfl).trans rfl
theorem wJ2_getChars_34 {ret F n h} {v0 v1 v2 v3 v4 v5 v6 st} : eJ2_getChars ret F (n + 1) 34 [v0, v1, v2, v3, v4, v5, v6] (st) h 0 0 = (eJ2_getChars ret F n 36 [v0, v1, v2, v3, v4, v5, v6] (.int (nI 100) :: st) h 0 0) := (amWp_dec rfl dJ2_getChars_34 rfl).trans rfl
theorem wJ2_getChars_36 {ret F n h} {v0 v1 v2 v3 v4 v5 v6 st y x} : eJ2_getChars ret F (n + 1) 36 [v0, v1, v2, v3, v4, v5, v6] (.int y :: .int x :: st) h 0 0 = (eJ2_getChars ret F n 37 [v0, v1, v2, v3, v4, v5, v6] (.int (x * y) :: st) h 0 0) := (amWp_dec rfl dJ2_getChars_36 rfl).trans rfl
theorem wJ2_getChars_37 {ret F n h} {v1 v2 v3 v4 v5 v6 st x} : eJ2_getChars ret F (n + 1) 37 [.int x, v1, v2, v3, v4, v5, v6] (st) h 0 0 = (eJ2_getChars ret F n 38 [.int x, v1, v2, v3, v4, v5, v6] (.int x :: st) h 0 0) := (amWp_dec rfl dJ2_getChars_37 rfl).trans rfl
theorem wJ2_getChars_38 {ret F n h} {v0 v1 v2 v3 v4 v5 v6 st y x} : eJ2_getChars ret F (n + 1) 38 [v0, v1, v2, v3, v4, v5, v6] (.int y :: .int x :: st) h 0 0 = (eJ2_getChars ret F n 39 [v0, v1, v2, v3, v4, v5, v6] (.int (x - y) :: st) h 0 0) := (amWp_dec rfl dJ2_getChars_38 rfl).trans rfl
theorem wJ2_getChars_39 {ret F n h} {v0 v1 v2 v3 v4 v5 v6 st x} : eJ2_getChars ret F (n + 1) 39 [v0, v1, v2, v3, v4, v5, v6] (.int x :: st) h 0 0 = (eJ2_getChars ret F n 41 [v0, v1, v2, amClr v3, .int x, v5, v6] (st) h 0 0) := (amWp_dec rfl dJ2_getChars_39 rfl).trans (amTrue (Nat.le_of_ble_eq_true rfl))
theorem wJ2_getChars_41 {ret F n h} {v0 v1 v2 v4 v5 v6 st x} : eJ2_getChars ret F (n + 1) 41 [v0, v1, v2, .int x, v4, v5, v6] (st) h 0 0 = (eJ2_getChars ret F n 42 [v0, v1, v2, .int x, v4, v5, v6] (.int x :: st) h 0 0) := (amWp_dec rfl dJ2_getChars_41 rfl).trans rfl
theorem wJ2_getChars_42 {ret F n h} {v0 v1 v2 v3 v4 v5 v6 st x} : eJ2_getChars ret F (n + 1) 42 [v0, v1, v2, v3, v4, v5, v6] (.int x :: st) h 0 0 = (eJ2_getChars ret F n 43 [.int x, v1, v2, v3, v4, v5, v6] (st) h 0 0) := (amWp_dec rfl dJ2_getChars_42 rfl).trans (amTrue (Nat.le_of_ble_eq_true rfl))
theorem wJ2_getChars_43 {ret F n h} {v0 v1 v2 v3 v4 v5 v6 st} : eJ2_getChars ret F (n + 1) 43 [v0, v1, v2, v3, v4, v5, v6] (st) h 0 0 = (amIsR v2 ∧ eJ2_getChars ret F n 44 [v0, v1, v2, v3, v4, v5, v6] (v2 :: st) h 0 0) := (amWp_dec rfl dJ2_getChars_43 rfl).trans rfl
theorem wJ2_getChars_44 {ret F n h} {v0 v1 v2 v3 v4 v6 st x} : eJ2_getChars ret F (n + 1) 44 [v0, v1, v2, v3, v4, .int x, v6] (st) h 0 0 = (eJ2_getChars ret F n 47 [v0, v1, v2, v3, amClr v4, .int (x - nI 1), v6] (st) h 0 0) := (amWp_dec rfl dJ2_getChars_44 rfl).trans (by rw [← amDec x 1 (by decide)]; rfl)
theorem wJ2_getChars_47 {ret F n h} {v0 v1 v2 v3 v4 v6 st x} : eJ2_getChars ret F (n + 1) 47 [v0, v1, v2, v3, v4, .int x, v6] (st) h 0 0 = (eJ2_getChars ret F n 49 [v0, v1, v2, v3, v4, .int x, v6] (.int x :: st) h 0 0) := (amWp_dec rfl dJ2_getChars_47 rfl).trans rfl
theorem wJ2_getChars_49 {ret F n h} {v0 v1 v2 v3 v4 v5 v6 r0 r1} : eJ2_getChars ret F (n + 1) 49 [v0, v1, v2, v3, v4, v5, v6] (r0 :: r1 :: []) h 0 0 = (eJ2_getChars ret F n 52 [v0, v1, v2, v3, v4, v5, v6] (.ref 17 :: r0 :: r1 :: []) h 0 0) := (amWp_dec rfl dJ2_getChars_49 rfl).trans (amS4 (Nat.le_of_ble_eq_true rfl) (Nat.le_of_ble_eq_true rfl) (Nat.le_of_ble_eq_true rfl) (Nat.le_of_ble_eq_true rfl))
theorem wJ2_getChars_52 {ret F n h} {v0 v1 v2 v3 v5 v6 st x} : eJ2_getChars ret F (n + 1) 52 [v0, v1, v2, v3, .int x, v5, v6] (st) h 0 0 = (eJ2_getChars ret F n 54 [v0, v1, v2, v3, .int x, v5, v6] (.int x :: st) h 0 0) := (amWp_dec rfl dJ2_getChars_52 rfl).trans rfl
theorem wJ2_getChars_54 {ret F n h} {v0 v1 v2 v3 v4 v5 v6 st x a} : eJ2_getChars ret F (n + 1) 54 [v0, v1, v2, v3, v4, v5, v6] (.int x :: .ref a :: st) h 0 0 = ((h.1 a).1 = 2 ∧ vp_in x (h.1 a).2 ∧ eJ2_getChars ret F n 55 [v0, v1, v2, v3, v4, v5, v6] (.int (h.2.1 a x.toNatClampNeg) :: st) h 0 0) := (amWp_dec rfl dJ2_getChars_54 rfl).trans rfl
theorem wJ2_getChars_55 {ret F n h} {v0 v1 v2 v3 v4 v5 v6 st y x a} : eJ2_getChars ret F (n + 1) 55 [v0, v1, v2, v3, v4, v5, v6] (.int y :: .int x :: .ref a :: st) h 0 0 = ((h.1 a).1 = 2 ∧ vp_in x (h.1 a).2 ∧ amN0 ≤ a ∧ eJ2_getChars ret F n 56 [v0, v1, v2, v3, v4, v5, v6] (st) (amSI h (amU h.2.1 a x.toNatClampNeg (vp_nar .byte y))) 0 0) := (amWp_dec rfl dJ2_getChars_55 rfl).trans rfl
theorem wJ2_getChars_56 {ret F n h} {v0 v1 v2 v3 v4 v5 v6 st} : eJ2_getChars ret F (n + 1) 56 [v0, v1, v2, v3, v4, v5, v6] (st) h 0 0 = (amIsR v2 ∧ eJ2_getChars ret F n 57 [v0, v1, v2, v3, v4, v5, v6] (v2 :: st) h 0 0) := (amWp_dec rfl dJ2_getChars_56 rfl).trans rfl
theorem wJ2_getChars_57 {ret F n h} {v0 v1 v2 v3 v4 v6 st x} : eJ2_getChars ret F (n + 1) 57 [v0, v1, v2, v3, v4, .int x, v6] (st) h 0 0 = (eJ2_getChars ret F n 60 [v0, v1, v2, v3, amClr v4, .int (x - nI 1), v6] (st) h 0 0) := (amWp_dec rfl dJ2_getChars_57 rfl).trans (by rw [← amDec x 1 (by decide)]; rfl)
theorem wJ2_getChars_60 {ret F n h} {v0 v1 v2 v3 v4 v6 st x} : eJ2_getChars ret F (n + 1) 60 [v0, v1, v2, v3, v4, .int x, v6] (st) h 0 0 = (eJ2_getChars ret F n 62 [v0, v1, v2, v3, v4, .int x, v6] (.int x :: st) h 0 0) := (amWp_dec rfl dJ2_getChars_60 rfl).trans rfl
theorem wJ2_getChars_62 {ret F n h} {v0 v1 v2 v3 v4 v5 v6 r0 r1} : eJ2_getChars ret F (n + 1) 62 [v0, v1, v2, v3, v4, v5, v6] (r0 :: r1 :: []) h 0 0 = (eJ2_getChars ret F n 65 [v0, v1, v2, v3, v4, v5, v6] (.ref 16 :: r0 :: r1 :: []) h 0 0) := (amWp_dec rfl dJ2_getChars_62 rfl).trans (amS4 (Nat.le_of_ble_eq_true rfl) (Nat.le_of_ble_eq_true rfl) (Nat.le_of_ble_eq_true rfl) (Nat.le_of_ble_eq_true rfl))
theorem wJ2_getChars_65 {ret F n h} {v0 v1 v2 v3 v5 v6 st x} : eJ2_getChars ret F (n + 1) 65 [v0, v1, v2, v3, .int x, v5, v6] (st) h 0 0 = (eJ2_getChars ret F n 67 [v0, v1, v2, v3, .int x, v5, v6] (.int x :: st) h 0 0) := (amWp_dec rfl dJ2_getChars_65 rfl).trans rfl
theorem wJ2_getChars_67 {ret F n h} {v0 v1 v2 v3 v4 v5 v6 st x a} : eJ2_getChars ret F (n + 1) 67 [v0, v1, v2, v3, v4, v5, v6] (.int x :: .ref a :: st) h 0 0 = ((h.1 a).1 = 2 ∧ vp_in x (h.1 a).2 ∧ eJ2_getChars ret F n 68 [v0, v1, v2, v3, v4, v5, v6] (.int (h.2.1 a x.toNatClampNeg) :: st) h 0 0) := (amWp_dec rfl dJ2_getChars_67 rfl).trans rfl
theorem wJ2_getChars_68 {ret F n h} {v0 v1 v2 v3 v4 v5 v6 st y x a} : eJ2_getChars ret F (n + 1) 68 [v0, v1, v2, v3, v4, v5, v6] (.int y :: .int x :: .ref a :: st) h 0 0 = ((h.1 a).1 = 2 ∧ vp_in x (h.1 a).2 ∧ amN0 ≤ a ∧ eJ2_getChars ret F n 69 [v0, v1, v2, v3, v4, v5, v6] (st) (amSI h (amU h.2.1 a x.toNatClampNeg (vp_nar .byte y))) 0 0) := (amWp_dec rfl dJ2_getChars_68 rfl).trans rfl
theorem wJ2_getChars_69 {ret F n h} {v0 v1 v2 v3 v4 v5 v6 st} : eJ2_getChars ret F (n + 1) 69 [v0, v1, v2, v3, v4, v5, v6] (st) h 0 0 = (eJ2_getChars ret F n 22 [v0, v1, v2, v3, v4, v5, v6] (st) h 0 0) := (amWp_dec rfl dJ2_getChars_69 rfl).trans rfl
theorem wJ2_getChars_72 {ret F n h} {v0 v1 v2 v3 v4 v5 v6 st} : eJ2_getChars ret F (n + 1) 72 [v0, v1, v2, v3, v4, v5, v6] (st) h 0 0 = (amIsR v2 ∧ eJ2_getChars ret F n 73 [v0, v1, v2, v3, v4, v5, v6] (v2 :: st) h 0 0) := (amWp_dec rfl dJ2_getChars_72 rfl).trans rfl
theorem wJ2_getChars_73 {ret F n h} {v0 v1 v2 v3 v4 v6 st x} : eJ2_getChars ret F (n + 1) 73 [v0, v1, v2, v3, v4, .int x, v6] (st) h 0 0 = (eJ2_getChars ret F n 76 [v0, v1, v2, v3, amClr v4, .int (x - nI 1), v6] (st) h 0 0) := (amWp_dec rfl dJ2_getChars_73 rfl).trans (by rw [← amDec x 1 (by decide)]; rfl)
theorem wJ2_getChars_76 {ret F n h} {v0 v1 v2 v3 v4 v6 st x} : eJ2_getChars ret F (n + 1) 76 [v0, v1, v2, v3, v4, .int x, v6] (st) h 0 0 = (eJ2_getChars ret F n 78 [v0, v1, v2, v3, v4, .int x, v6] (.int x :: st) h 0 0) := (amWp_dec rfl dJ2_getChars_76 rfl).trans rfl
theorem wJ2_getChars_78 {ret F n h} {v0 v1 v2 v3 v4 v5 v6 r0 r1} : eJ2_getChars ret F (n + 1) 78 [v0, v1, v2, v3, v4, v5, v6] (r0 :: r1 :: []) h 0 0 = (eJ2_getChars ret F n 81 [v0, v1, v2, v3, v4, v5, v6] (.ref 17 :: r0 :: r1 :: []) h 0 0) := (amWp_dec rfl dJ2_getChars_78 rfl).trans (amS4 (Nat.le_of_ble_eq_true rfl) (Nat.le_of_ble_eq_true rfl) (Nat.le_of_ble_eq_true rfl) (Nat.le_of_ble_eq_true rfl))
theorem wJ2_getChars_81 {ret F n h} {v1 v2 v3 v4 v5 v6 st x} : eJ2_getChars ret F (n + 1) 81 [.int x, v1, v2, v3, v4, v5, v6] (st) h 0 0 = (eJ2_getChars ret F n 82 [.int x, v1, v2, v3, v4, v5, v6] (.int x :: st) h 0 0) := (amWp_dec rfl dJ2_getChars_81 rfl).trans rfl
theorem wJ2_getChars_82 {ret F n h} {v0 v1 v2 v3 v4 v5 v6 st x} : eJ2_getChars ret F (n + 1) 82 [v0, v1, v2, v3, v4, v5, v6] (.int x :: st) h 0 0 = (eJ2_getChars ret F n 83 [v0, v1, v2, v3, v4, v5, v6] (.int (-x) :: st) h 0 0) := (amWp_dec rfl dJ2_getChars_82 rfl).trans rfl
theorem wJ2_getChars_83 {ret F n h} {v0 v1 v2 v3 v4 v5 v6 st x a} : eJ2_getChars ret F (n + 1) 83 [v0, v1, v2, v3, v4, v5, v6] (.int x :: .ref a :: st) h 0 0 = ((h.1 a).1 = 2 ∧ vp_in x (h.1 a).2 ∧ eJ2_getChars ret F n 84 [v0, v1, v2, v3, v4, v5, v6] (.int (h.2.1 a x.toNatClampNeg) :: st) h 0 0) := (amWp_dec rfl dJ2_getChars_83 rfl).trans rfl
theorem wJ2_getChars_84 {ret F n h} {v0 v1 v2 v3 v4 v5 v6 st y x a} : eJ2_getChars ret F (n + 1) 84 [v0, v1, v2, v3, v4, v5, v6] (.int y :: .int x :: .ref a :: st) h 0 0 = ((h.1 a).1 = 2 ∧ vp_in x (h.1 a).2 ∧ amN0 ≤ a ∧ eJ2_getChars ret F n 85 [v0, v1, v2, v3, v4, v5, v6] (st) (amSI h (amU h.2.1 a x.toNatClampNeg (vp_nar .byte y))) 0 0) := (amWp_dec rfl dJ2_getChars_84 rfl).trans rfl
theorem wJ2_getChars_85 {ret F n h} {v1 v2 v3 v4 v5 v6 st x} : eJ2_getChars ret F (n + 1) 85 [.int x, v1, v2, v3, v4, v5, v6] (st) h 0 0 = (eJ2_getChars ret F n 86 [.int x, v1, v2, v3, v4, v5, v6] (.int x :: st) h 0 0) := (amWp_dec rfl dJ2_getChars_85 rfl).trans rfl
theorem wJ2_getChars_86 {ret F n h} {v0 v1 v2 v3 v4 v5 v6 st} : eJ2_getChars ret F (n + 1) 86 [v0, v1, v2, v3, v4, v5, v6] (st) h 0 0 = (eJ2_getChars ret F n 88 [v0, v1, v2, v3, v4, v5, v6] (.int (-9) :: st) h 0 0) := (amWp_dec rfl dJ2_getChars_86 rfl).trans rfl
theorem wJ2_getChars_88 {ret F n h} {v0 v1 v2 v3 v4 v5 v6 st y x} : eJ2_getChars ret F (n + 1) 88 [v0, v1, v2, v3, v4, v5, v6] (.int y :: .int x :: st) h 0 0 = ((y ≤ x → eJ2_getChars ret F n 104 [v0, v1, v2, v3, v4, v5, v6] (st) h 0 0) ∧ (¬ y ≤ x → eJ2_getChars ret F n 91 [v0, v1, v2, v3, v4, v5, v6] (st) h 0 0)) := (amWp_dec rfl dJ2_getChars_88 rfl).trans rfl
theorem wJ2_getChars_91 {ret F n h} {v0 v1 v2 v3 v4 v5 v6 st} : eJ2_getChars ret F (n + 1) 91 [v0, v1, v2, v3, v4, v5, v6] (st) h 0 0 = (amIsR v2 ∧ eJ2_getChars ret F n 92 [v0, v1, v2, v3, v4, v5, v6] (v2 :: st) h 0 0) := (amWp_dec rfl dJ2_getChars_91 rfl).trans rfl
theorem wJ2_getChars_92 {ret F n h} {v0 v1 v2 v3 v4 v6 st x} : eJ2_getChars ret F (n + 1) 92 [v0, v1, v2, v3, v4, .int x, v6] (st) h 0 0 = (eJ2_getChars ret F n 95 [v0, v1, v2, v3, amClr v4, .int (x - nI 1), v6] (st) h 0 0) := (amWp_dec rfl dJ2_getChars_92 rfl).trans (by rw [← amDec x 1 (by decide)]; rfl)
theorem wJ2_getChars_95 {ret F n h} {v0 v1 v2 v3 v4 v6 st x} : eJ2_getChars ret F (n + 1) 95 [v0, v1, v2, v3, v4, .int x, v6] (st) h 0 0 = (eJ2_getChars ret F n 97 [v0, v1, v2, v3, v4, .int x, v6] (.int x :: st) h 0 0) := (amWp_dec rfl dJ2_getChars_95 rfl).trans rfl
theorem wJ2_getChars_97 {ret F n h} {v0 v1 v2 v3 v4 v5 v6 r0 r1} : eJ2_getChars ret F (n + 1) 97 [v0, v1, v2, v3, v4, v5, v6] (r0 :: r1 :: []) h 0 0 = (eJ2_getChars ret F n 100 [v0, v1, v2, v3, v4, v5, v6] (.ref 16 :: r0 :: r1 :: []) h 0 0) := (amWp_dec rfl dJ2_getChars_97 rfl).trans (amS4 (Nat.le_of_ble_eq_true rfl) (Nat.le_of_ble_eq_true rfl) (Nat.le_of_ble_eq_true rfl) (Nat.le_of_ble_eq_true rfl))
theorem wJ2_getChars_100 {ret F n h} {v1 v2 v3 v4 v5 v6 st x} : eJ2_getChars ret F (n + 1) 100 [.int x, v1, v2, v3, v4, v5, v6] (st) h 0 0 = (eJ2_getChars ret F n 101 [.int x, v1, v2, v3, v4, v5, v6] (.int x :: st) h 0 0) := (amWp_dec rfl dJ2_getChars_100 rfl).trans rfl
theorem wJ2_getChars_101 {ret F n h} {v0 v1 v2 v3 v4 v5 v6 st x} : eJ2_getChars ret F (n + 1) 101 [v0, v1, v2, v3, v4, v5, v6] (.int x :: st) h 0 0 = (eJ2_getChars ret F n 102 [v0, v1, v2, v3, v4, v5, v6] (.int (-x) :: st) h 0 0) := (amWp_dec rfl dJ2_getChars_101 rfl).trans rfl
theorem wJ2_getChars_102 {ret F n h} {v0 v1 v2 v3 v4 v5 v6 st x a} : eJ2_getChars ret F (n + 1) 102 [v0, v1, v2, v3, v4, v5, v6] (.int x :: .ref a :: st) h 0 0 = ((h.1 a).1 = 2 ∧ vp_in x (h.1 a).2 ∧ eJ2_getChars ret F n 103 [v0, v1, v2, v3, v4, v5, v6] (.int (h.2.1 a x.toNatClampNeg) :: st) h 0 0) := (amWp_dec rfl dJ2_getChars_102 rfl).trans rfl
theorem wJ2_getChars_103 {ret F n h} {v0 v1 v2 v3 v4 v5 v6 st y x a} : eJ2_getChars ret F (n + 1) 103 [v0, v1, v2, v3, v4, v5, v6] (.int y :: .int x :: .ref a :: st) h 0 0 = ((h.1 a).1 = 2 ∧ vp_in x (h.1 a).2 ∧ amN0 ≤ a ∧ eJ2_getChars ret F n 104 [v0, v1, v2, v3, v4, v5, v6] (st) (amSI h (amU h.2.1 a x.toNatClampNeg (vp_nar .byte y))) 0 0) := (amWp_dec rfl dJ2_getChars_103 rfl).trans rfl
theorem wJ2_getChars_104 {ret F n h} {v0 v1 v2 v3 v4 v5 st x} : eJ2_getChars ret F (n + 1) 104 [v0, v1, v2, v3, v4, v5, .int x] (st) h 0 0 = (eJ2_getChars ret F n 106 [v0, v1, v2, v3, v4, v5, .int x] (.int x :: st) h 0 0) := (amWp_dec rfl dJ2_getChars_104 rfl).trans rfl
theorem wJ2_getChars_106 {ret F n h} {v0 v1 v2 v3 v4 v5 v6 st x} : eJ2_getChars ret F (n + 1) 106 [v0, v1, v2, v3, v4, v5, v6] (.int x :: st) h 0 0 = ((x = 0 → eJ2_getChars ret F n 118 [v0, v1, v2, v3, v4, v5, v6] (st) h 0 0) ∧ (¬ x = 0 → eJ2_getChars ret F n 109 [v0, v1, v2, v3, v4, v5, v6] (st) h 0 0)) := (amWp_dec rfl dJ2_getChars_106 rfl).trans rfl
theorem wJ2_getChars_109 {ret F n h} {v0 v1 v2 v3 v4 v5 v6 st} : eJ2_getChars ret F (n + 1) 109 [v0, v1, v2, v3, v4, v5, v6] (st) h 0 0 = (amIsR v2 ∧ eJ2_getChars ret F n 110 [v0, v1, v2, v3, v4, v5, v6] (v2 :: st) h 0 0) := (amWp_dec rfl dJ2_getChars_109 rfl).trans rfl
theorem wJ2_getChars_110 {ret F n h} {v0 v1 v2 v3 v4 v6 st x} : eJ2_getChars ret F (n + 1) 110 [v0, v1, v2, v3, v4, .int x, v6] (st) h 0 0 = (eJ2_getChars ret F n 113 [v0, v1, v2, v3, amClr v4, .int (x - nI 1), v6] (st) h 0 0) := (amWp_dec rfl dJ2_getChars_110 rfl).trans (by rw [← amDec x 1 (by decide)]; rfl)
theorem wJ2_getChars_113 {ret F n h} {v0 v1 v2 v3 v4 v6 st x} : eJ2_getChars ret F (n + 1) 113 [v0, v1, v2, v3, v4, .int x, v6] (st) h 0 0 = (eJ2_getChars ret F n 115 [v0, v1, v2, v3, v4, .int x, v6] (.int x :: st) h 0 0) := (amWp_dec rfl dJ2_getChars_113 rfl).trans rfl
theorem wJ2_getChars_115 {ret F n h} {v0 v1 v2 v3 v4 v5 v6 st} : eJ2_getChars ret F (n + 1) 115 [v0, v1, v2, v3, v4, v5, v6] (st) h 0 0 = (eJ2_getChars ret F n 117 [v0, v1, v2, v3, v4, v5, v6] (.int (nI 45) :: st) h 0 0) := (amWp_dec rfl dJ2_getChars_115 rfl).trans rfl
theorem wJ2_getChars_117 {ret F n h} {v0 v1 v2 v3 v4 v5 v6 st y x a} : eJ2_getChars ret F (n + 1) 117 [v0, v1, v2, v3, v4, v5, v6] (.int y :: .int x :: .ref a :: st) h 0 0 = ((h.1 a).1 = 2 ∧ vp_in x (h.1 a).2 ∧ amN0 ≤ a ∧ eJ2_getChars ret F n 118 [v0, v1, v2, v3, v4, v5, v6] (st) (amSI h (amU h.2.1 a x.toNatClampNeg (vp_nar .byte y))) 0 0) := (amWp_dec rfl dJ2_getChars_117 rfl).trans rfl
theorem wJ2_getChars_118 {ret F n h} {v0 v1 v2 v3 v4 v6 st x} : eJ2_getChars ret F (n + 1) 118 [v0, v1, v2, v3, v4, .int x, v6] (st) h 0 0 = (eJ2_getChars ret F n 120 [v0, v1, v2, v3, v4, .int x, v6] (.int x :: st) h 0 0) := (amWp_dec rfl dJ2_getChars_118 rfl).trans rfl
theorem wJ2_getChars_120 {ret F n h} {v0 v1 v2 v3 v4 v5 v6 x} : eJ2_getChars ret F (n + 1) 120 [v0, v1, v2, v3, v4, v5, v6] ([.int x]) h 0 0 = (ret (some (.int x)) h 0 0) := (amWp_dec rfl dJ2_getChars_120 rfl).trans (amTrue ⟨_, rfl, rfl⟩)
theorem evJ2_getChars (l : Launch) (G : amG) : ∀ pc S i sz, amLk rJ2_getChars pc = some S → decode cJ2_getChars pc = .ok (i, sz) → amSiteP pc G l yJ2_getChars.cls yJ2_getChars.name yJ2_getChars.desc (amRm 1 0 0) i sz S.1 S.2.1 S.2.2.1 S.2.2.2 := amLk_ok (by
  refine List.forall_mem_cons.mpr ⟨⟨_, _, dJ2_getChars_49, amSite.P (amSiteGs (List.mem_of_getElem? (i := 2) rfl) q771)⟩, ?_⟩
  refine List.forall_mem_cons.mpr ⟨⟨_, _, dJ2_getChars_62, amSite.P (amSiteGs (List.mem_of_getElem? (i := 1) rfl) q773)⟩, ?_⟩
  refine List.forall_mem_cons.mpr ⟨⟨_, _, dJ2_getChars_78, amSite.P (amSiteGs (List.mem_of_getElem? (i := 2) rfl) q771)⟩, ?_⟩
  refine List.forall_mem_cons.mpr ⟨⟨_, _, dJ2_getChars_97, amSite.P (amSiteGs (List.mem_of_getElem? (i := 1) rfl) q773)⟩, ?_⟩
  exact fun _ h => absurd h List.not_mem_nil)
theorem goJ2_getChars {ret F} (hF : amCld cJ2_getChars kJ2_getChars (amLk rJ2_getChars) (some .int) 0 0 ret F) (n : Nat) {pc ls st h k z} (q : sJ2_getChars ret F n pc ls st h k z) : F pc ls st h k z := hF.1 n pc ls st h k z q
theorem metJ2_getChars (l : Launch) (G : amG) : amMet l G yJ2_getChars (ws_ yJ2_getChars cJ2_getChars 7 (some .int)) 1 0 0 tJ2_getCharsC := by
  refine amMet_of (cut := kJ2_getChars) (by decide +kernel) (evJ2_getChars l G) ?_
  intro as h K hT
  match as, hT with
  | [.int x, .int e, .ref a], ⟨hc, v, i, n, e1, hv, e2, di, hin, n1, ha, a24, hK⟩ =>
  refine ⟨Nat.le_of_ble_eq_true rfl, fun F hF => ?_⟩
  show F 0 [.int x, .int e, .ref a, .retAddr 0, .retAddr 0, .retAddr 0, .retAddr 0] [] h 0 0
  obtain ⟨a, rfl⟩ : ∃ i : Nat, i = a := ⟨_, rfl⟩
  subst e1 e2
  have a24 : (24 : Nat) ≤ a := a24
  obtain ⟨-, c16, c17, cd⟩ := hc
  obtain ⟨d16, d17⟩ := cd v (by omega)
  obtain ⟨f1, f2, f3, f4⟩ := negF v (by omega)
  have f4' : (-100 < -nI v) = True := eq_true f4
  have a24' : (amN0 ≤ a) = True := eq_true a24
  have nn : - -nI v = nI v := Int32.neg_neg
  refine goJ2_getChars hF 80 ?_
  by_cases c : v ≤ 9
  · have f3' : (-9 ≤ -nI v) = True := eq_true (f3.mpr c)
    have e2 : digL v = [48 + v % 10] := by unfold digL; rw [if_neg (by omega)]
    rw [e2] at hK di
    have l1 : 1 ≤ i := di
    have key := hK (amU h.2.1 a (i - 1) (nI (48 + v % 10))) (fun j hj => by simp (disch := omega) only [amU_at, amU_ne, amU_nj, amU_neR, up_ne, up_at, amSI_2]) (fun q hq => by
      have hq : q < i - 1 := hq
      simp (disch := omega) only [amU_at, amU_ne, amU_nj, amU_neR, up_ne, up_at, amSI_2]) (fun q hq => by
      have hq : q < 1 := hq
      obtain rfl : q = 0 := by omega
      show amU h.2.1 a (i - 1) (nI (48 + v % 10)) a (i - 1 + 0) = nI (48 + v % 10)
      simp (disch := omega) only [amU_at, amU_ne, amU_nj, amU_neR, up_ne, up_at, amSI_2, Nat.add_zero])
    simp (disch := omega) only [wJ2_getChars_0, uJ2_getChars_0, wJ2_getChars_1, wJ2_getChars_3, wJ2_getChars_4, wJ2_getChars_7, wJ2_getChars_8, wJ2_getChars_11, wJ2_getChars_12, wJ2_getChars_14, wJ2_getChars_16, wJ2_getChars_19, wJ2_getChars_20, wJ2_getChars_21, wJ2_getChars_22, wJ2_getChars_23, wJ2_getChars_25, wJ2_getChars_28, wJ2_getChars_29, wJ2_getChars_31, wJ2_getChars_32, wJ2_getChars_33, wJ2_getChars_34, wJ2_getChars_36, wJ2_getChars_37, wJ2_getChars_38, wJ2_getChars_39, wJ2_getChars_41, wJ2_getChars_42, wJ2_getChars_43, wJ2_getChars_44, wJ2_getChars_47, wJ2_getChars_49, wJ2_getChars_52, wJ2_getChars_54, wJ2_getChars_55, wJ2_getChars_56, wJ2_getChars_57, wJ2_getChars_60, wJ2_getChars_62, wJ2_getChars_65, wJ2_getChars_67, wJ2_getChars_68, wJ2_getChars_69, wJ2_getChars_72, wJ2_getChars_73, wJ2_getChars_76, wJ2_getChars_78, wJ2_getChars_81, wJ2_getChars_82, wJ2_getChars_83, wJ2_getChars_84, wJ2_getChars_85, wJ2_getChars_86, wJ2_getChars_88, wJ2_getChars_91, wJ2_getChars_92, wJ2_getChars_95, wJ2_getChars_97, wJ2_getChars_100, wJ2_getChars_101, wJ2_getChars_102, wJ2_getChars_103, wJ2_getChars_104, wJ2_getChars_106, wJ2_getChars_109, wJ2_getChars_110, wJ2_getChars_113, wJ2_getChars_115, wJ2_getChars_117, wJ2_getChars_118, wJ2_getChars_120, amSI_1, amSI_2, amSI_3, amSI_s, amU_at, amIsR_ref, amIsR_null, amIsR_rf, amRf_some, amRf_none, amClr_int, amClr_ref, amClr_null, amClr_long, amClr_ra, amClr_rf, amFit_int, amFit_oref, amFit_aref, amFit_onull, amFit_anull, amOptSome, amOptNone, List.cons_append, List.nil_append, true_and, and_true, true_implies, not_true_eq_false, not_false_eq_true, false_implies, and_self, Nat.add_zero, Nat.zero_add, ne_eq, Prod.mk.injEq, amC01_0, amC01_1, amC01_nb, amNb0, amNb1, amTcpI_d, Nat.reduceLeDiff, Nat.reduceAdd, Nat.reduceSub, Nat.reduceEqDiff, Nat.le_refl, amN0le, amLeI, amLtI, amEqI, amLe0, amGt0, amEq0, amNotPosI, amGe0, amVI, amCl_nI, amAdd, amSub, amMul, f4', f3', nn, c17, d17, ha, a24', amByteN]
    exact amRet.of (by decide) (by decide) key
  · have f3' : (-9 ≤ -nI v) = False := eq_false (fun z => c (f3.mp z))
    have e2 : digL v = [48 + v / 10, 48 + v % 10] := by unfold digL; rw [if_pos (by omega)]
    rw [e2] at hK di
    have l1 : 2 ≤ i := di
    have key := hK (amU (amU h.2.1 a (i - 1) (nI (48 + v % 10))) a (i - 2) (nI (48 + v / 10))) (fun j hj => by simp (disch := omega) only [amU_at, amU_ne, amU_nj, amU_neR, up_ne, up_at, amSI_2]) (fun q hq => by
      have hq : q < i - 2 := hq
      simp (disch := omega) only [amU_at, amU_ne, amU_nj, amU_neR, up_ne, up_at, amSI_2]) (fun q hq => by
      have hq : q < 2 := hq
      rcases (show q = 0 ∨ q = 1 by omega) with e | e
      · subst e
        show amU (amU h.2.1 a (i - 1) (nI (48 + v % 10))) a (i - 2) (nI (48 + v / 10)) a (i - 2 + 0) = nI (48 + v / 10)
        simp (disch := omega) only [amU_at, amU_ne, amU_nj, amU_neR, up_ne, up_at, amSI_2, Nat.add_zero]
      · subst e
        show amU (amU h.2.1 a (i - 1) (nI (48 + v % 10))) a (i - 2) (nI (48 + v / 10)) a (i - 2 + 1) = nI (48 + v % 10)
        rw [show i - 2 + 1 = i - 1 by omega]
        simp (disch := omega) only [amU_at, amU_ne, amU_nj, amU_neR, up_ne, up_at, amSI_2])
    have e12 : i - 1 - 1 = i - 2 := by omega
    have d16' : amU h.2.1 a (i - 1) (nI (48 + v % 10)) 16 v = nI (48 + v / 10) := by rw [amU_ne (by omega)]; exact d16
    simp (disch := omega) only [wJ2_getChars_0, uJ2_getChars_0, wJ2_getChars_1, wJ2_getChars_3, wJ2_getChars_4, wJ2_getChars_7, wJ2_getChars_8, wJ2_getChars_11, wJ2_getChars_12, wJ2_getChars_14, wJ2_getChars_16, wJ2_getChars_19, wJ2_getChars_20, wJ2_getChars_21, wJ2_getChars_22, wJ2_getChars_23, wJ2_getChars_25, wJ2_getChars_28, wJ2_getChars_29, wJ2_getChars_31, wJ2_getChars_32, wJ2_getChars_33, wJ2_getChars_34, wJ2_getChars_36, wJ2_getChars_37, wJ2_getChars_38, wJ2_getChars_39, wJ2_getChars_41, wJ2_getChars_42, wJ2_getChars_43, wJ2_getChars_44, wJ2_getChars_47, wJ2_getChars_49, wJ2_getChars_52, wJ2_getChars_54, wJ2_getChars_55, wJ2_getChars_56, wJ2_getChars_57, wJ2_getChars_60, wJ2_getChars_62, wJ2_getChars_65, wJ2_getChars_67, wJ2_getChars_68, wJ2_getChars_69, wJ2_getChars_72, wJ2_getChars_73, wJ2_getChars_76, wJ2_getChars_78, wJ2_getChars_81, wJ2_getChars_82, wJ2_getChars_83, wJ2_getChars_84, wJ2_getChars_85, wJ2_getChars_86, wJ2_getChars_88, wJ2_getChars_91, wJ2_getChars_92, wJ2_getChars_95, wJ2_getChars_97, wJ2_getChars_100, wJ2_getChars_101, wJ2_getChars_102, wJ2_getChars_103, wJ2_getChars_104, wJ2_getChars_106, wJ2_getChars_109, wJ2_getChars_110, wJ2_getChars_113, wJ2_getChars_115, wJ2_getChars_117, wJ2_getChars_118, wJ2_getChars_120, amSI_1, amSI_2, amSI_3, amSI_s, amU_at, amIsR_ref, amIsR_null, amIsR_rf, amRf_some, amRf_none, amClr_int, amClr_ref, amClr_null, amClr_long, amClr_ra, amClr_rf, amFit_int, amFit_oref, amFit_aref, amFit_onull, amFit_anull, amOptSome, amOptNone, List.cons_append, List.nil_append, true_and, and_true, true_implies, not_true_eq_false, not_false_eq_true, false_implies, and_self, Nat.add_zero, Nat.zero_add, ne_eq, Prod.mk.injEq, amC01_0, amC01_1, amC01_nb, amNb0, amNb1, amTcpI_d, Nat.reduceLeDiff, Nat.reduceAdd, Nat.reduceSub, Nat.reduceEqDiff, Nat.le_refl, amN0le, amLeI, amLtI, amEqI, amLe0, amGt0, amEq0, amNotPosI, amGe0, amVI, amCl_nI, amAdd, amSub, amMul, f4', f3', nn, c16, c17, d17, d16', ha, a24', amByteN, e12]
    exact amRet.of (by decide) (by decide) key
theorem metJ2_getCharsP (l : Launch) (G : amG) : amMet l G yJ2_getChars (ws_ yJ2_getChars cJ2_getChars 7 (some .int)) 1 0 0 tJ2_getChars := (metJ2_getChars l G).cst
theorem tJ2_getChars_d {x e : Int32} {a : Nat} {h : amH} {K : Option Value → amH → Prop} : tJ2_getChars [.int x, .int e, .ref a] h K = ∃ v i n : Nat, x = nI v ∧ v ≤ 99 ∧ e = nI i ∧ (digL v).length ≤ i ∧ i ≤ n ∧ n ≤ 1000 ∧ h.1 a = (2, n) ∧ 24 ≤ a ∧ ∀ m', (∀ j : Nat, j ≠ a → m' j = h.2.1 j) → (∀ q : Nat, q < i - (digL v).length → m' a q = h.2.1 a q) → (∀ q, q < (digL v).length → m' a (i - (digL v).length + q) = nI ((digL v).getD q 0)) → K (some (.int (nI (i - (digL v).length)))) (amSI h m') := rfl
def tJ4_append_2 : amT := fun as h K => match as with
  | [.ref b, .int x] => ∃ (n0 v : Nat) (t : List Nat), SbAt h n0 b t ∧ x = nI v ∧ v ≤ 99 ∧ t.length + 2 ≤ 150 ∧ ∀ h', gFr h h' n0 → SbAt h' n0 b (t ++ digL v) → K (some (.ref b)) h'
  | _ => False
/-! java/lang/AbstractStringBuilder.append(I)Ljava/lang/AbstractStringBuilder; -/
def kJ4_append_2 : Nat → Bool := fun pc => pc == 17 || pc == 33
def rJ4_append_2 : List (Nat × amS) := [(1, 1, 0, 0, amTget 8 3), (7, 1, 0, 0, tJ2_stringSize), (14, 2, 1, 302, (amRecv 8 tJ4_ensureCapacityInternal)), (18, 1, 0, 0, (amRecv 8 tJ4_isLatin1)), (27, 1, 0, 0, amTget 8 0), (30, 3, 0, 0, tJ2_getChars), (50, 2, 0, 0, amTput 8 3)]
def eJ4_append_2 (ret : Option Value → amH → Nat → Nat → Prop) (F : amX) : Nat → amX := amWp cJ4_append_2 kJ4_append_2 (amLk rJ4_append_2) (some (FieldType.object "java/lang/AbstractStringBuilder")) 1 302 ret F
def sJ4_append_2 (ret : Option Value → amH → Nat → Nat → Prop) (F : amX) : Nat → amX := amWs cJ4_append_2 kJ4_append_2 (amLk rJ4_append_2) (some (FieldType.object "java/lang/AbstractStringBuilder")) 1 302 ret F
theorem wJ4_append_2_0 {ret F n h k z} {v0 v1 v2 v3 st} : eJ4_append_2 ret F (n + 1) 0 [v0, v1, v2, v3] (st) h k z = (amIsR v0 ∧ eJ4_append_2 ret F n 1 [v0, v1, v2, v3] (v0 :: st) h k z) := (amWp_dec rfl dJ4_append_2_0 rfl).trans rfl
theorem uJ4_append_2_0 {ret F n h k z} {v0 v1 v2 v3 st} : sJ4_append_2 ret F n 0 [v0, v1, v2, v3] (st) h k z = (amIsR v0 ∧ eJ4_append_2 ret F n 1 [v0, v1, v2, v3] (v0 :: st) h k z) := (amWs_dec dJ4_append_2_0 rfl).trans rfl
theorem wJ4_append_2_1 {ret F n h k z} {v0 v1 v2 v3 a} : eJ4_append_2 ret F (n + 1) 1 [v0, v1, v2, v3] (.ref a :: []) h k z = (k + 0 ≤ 1 ∧ z + 0 ≤ 302 ∧ h.1 a = (0, 8) ∧ eJ4_append_2 ret F n 4 [v0, v1, v2, v3] (.int (h.2.1 a 3) :: []) h (k + 0) (z + 0)) := (amWp_dec rfl dJ4_append_2_1 rfl).trans (amS2 (Nat.le_of_ble_eq_true rfl) (Nat.le_of_ble_eq_true rfl))
theorem wJ4_append_2_4 {ret F n h k z} {v0 v1 v2 v3 st x} : eJ4_append_2 ret F (n + 1) 4 [v0, v1, v2, v3] (.int x :: st) h k z = (eJ4_append_2 ret F n 5 [v0, amClr v1, .int x, v3] (st) h k z) := (amWp_dec rfl dJ4_append_2_4 rfl).trans (amTrue (Nat.le_of_ble_eq_true rfl))
theorem wJ4_append_2_5 {ret F n h k z} {v0 v1 v3 st x} : eJ4_append_2 ret F (n + 1) 5 [v0, v1, .int x, v3] (st) h k z = (eJ4_append_2 ret F n 6 [v0, v1, .int x, v3] (.int x :: st) h k z) := (amWp_dec rfl dJ4_append_2_5 rfl).trans rfl
theorem wJ4_append_2_6 {ret F n h k z} {v0 v2 v3 st x} : eJ4_append_2 ret F (n + 1) 6 [v0, .int x, v2, v3] (st) h k z = (eJ4_append_2 ret F n 7 [v0, .int x, v2, v3] (.int x :: st) h k z) := (amWp_dec rfl dJ4_append_2_6 rfl).trans rfl
theorem wJ4_append_2_7 {ret F n h k z} {v0 v1 v2 v3 x0 r0} : eJ4_append_2 ret F (n + 1) 7 [v0, v1, v2, v3] (.int x0 :: r0 :: []) h k z = (k + 0 ≤ 1 ∧ z + 0 ≤ 302 ∧ tJ2_stringSize [.int x0] h (fun v h => eJ4_append_2 ret F n 10 [v0, v1, v2, v3] (v.toList ++ (r0 :: [])) h (k + 0) (z + 0))) := (amWp_dec rfl dJ4_append_2_7 rfl).trans (amS2 (Nat.le_of_ble_eq_true rfl) (Nat.le_of_ble_eq_true rfl))
theorem wJ4_append_2_10 {ret F n h k z} {v0 v1 v2 v3 st y x} : eJ4_append_2 ret F (n + 1) 10 [v0, v1, v2, v3] (.int y :: .int x :: st) h k z = (eJ4_append_2 ret F n 11 [v0, v1, v2, v3] (.int (x + y) :: st) h k z) := (amWp_dec rfl dJ4_append_2_10 rfl).trans rfl
theorem wJ4_append_2_11 {ret F n h k z} {v0 v1 v2 v3 st x} : eJ4_append_2 ret F (n + 1) 11 [v0, v1, v2, v3] (.int x :: st) h k z = (eJ4_append_2 ret F n 12 [v0, v1, amClr v2, .int x] (st) h k z) := (amWp_dec rfl dJ4_append_2_11 rfl).trans (amTrue (Nat.le_of_ble_eq_true rfl))
theorem wJ4_append_2_12 {ret F n h k z} {v0 v1 v2 v3 st} : eJ4_append_2 ret F (n + 1) 12 [v0, v1, v2, v3] (st) h k z = (amIsR v0 ∧ eJ4_append_2 ret F n 13 [v0, v1, v2, v3] (v0 :: st) h k z) := (amWp_dec rfl dJ4_append_2_12 rfl).trans rfl
theorem wJ4_append_2_13 {ret F n h k z} {v0 v1 v2 st x} : eJ4_append_2 ret F (n + 1) 13 [v0, v1, v2, .int x] (st) h k z = (eJ4_append_2 ret F n 14 [v0, v1, v2, .int x] (.int x :: st) h k z) := (amWp_dec rfl dJ4_append_2_13 rfl).trans rfl
theorem wJ4_append_2_14 {ret F n h k z} {v0 v1 v2 v3 x1 x0} : eJ4_append_2 ret F (n + 1) 14 [v0, v1, v2, v3] (.int x1 :: .ref x0 :: []) h k z = (k + 1 ≤ 1 ∧ z + 302 ≤ 302 ∧ h.1 x0 = (0, 8) ∧ tJ4_ensureCapacityInternal [.ref x0, .int x1] h (fun v h => eJ4_append_2 ret F n 17 [v0, v1, v2, v3] (v.toList ++ ([])) h (k + 1) (z + 302))) := (amWp_dec rfl dJ4_append_2_14 rfl).trans (amS2 (Nat.le_of_ble_eq_true rfl) (Nat.le_of_ble_eq_true rfl))
theorem wJ4_append_2_17 {ret F n ls st h k z} : eJ4_append_2 ret F (n + 1) 17 ls st h k z = F 17 ls st h k z := amWp_cut rfl
theorem uJ4_append_2_17 {ret F n h k z} {v0 v1 v2 v3 st} : sJ4_append_2 ret F n 17 [v0, v1, v2, v3] (st) h k z = (amIsR v0 ∧ eJ4_append_2 ret F n 18 [v0, v1, v2, v3] (v0 :: st) h k z) := (amWs_dec dJ4_append_2_17 rfl).trans rfl
theorem wJ4_append_2_18 {ret F n h k z} {v0 v1 v2 v3 x0} : eJ4_append_2 ret F (n + 1) 18 [v0, v1, v2, v3] (.ref x0 :: []) h k z = (k + 0 ≤ 1 ∧ z + 0 ≤ 302 ∧ h.1 x0 = (0, 8) ∧ tJ4_isLatin1 [.ref x0] h (fun v h => eJ4_append_2 ret F n 21 [v0, v1, v2, v3] (v.toList ++ ([])) h (k + 0) (z + 0))) := (amWp_dec rfl dJ4_append_2_18 rfl).trans (amS2 (Nat.le_of_ble_eq_true rfl) (Nat.le_of_ble_eq_true rfl))
theorem wJ4_append_2_21 {ret F n h k z} {v0 v1 v2 v3 st x} : eJ4_append_2 ret F (n + 1) 21 [v0, v1, v2, v3] (.int x :: st) h k z = ((x = 0 → eJ4_append_2 ret F n 37 [v0, v1, v2, v3] (st) h k z) ∧ (¬ x = 0 → eJ4_append_2 ret F n 24 [v0, v1, v2, v3] (st) h k z)) := (amWp_dec rfl dJ4_append_2_21 rfl).trans rfl
theorem wJ4_append_2_24 {ret F n h k z} {v0 v2 v3 st x} : eJ4_append_2 ret F (n + 1) 24 [v0, .int x, v2, v3] (st) h k z = (eJ4_append_2 ret F n 25 [v0, .int x, v2, v3] (.int x :: st) h k z) := (amWp_dec rfl dJ4_append_2_24 rfl).trans rfl
theorem wJ4_append_2_25 {ret F n h k z} {v0 v1 v2 st x} : eJ4_append_2 ret F (n + 1) 25 [v0, v1, v2, .int x] (st) h k z = (eJ4_append_2 ret F n 26 [v0, v1, v2, .int x] (.int x :: st) h k z) := (amWp_dec rfl dJ4_append_2_25 rfl).trans rfl
theorem wJ4_append_2_26 {ret F n h k z} {v0 v1 v2 v3 st} : eJ4_append_2 ret F (n + 1) 26 [v0, v1, v2, v3] (st) h k z = (amIsR v0 ∧ eJ4_append_2 ret F n 27 [v0, v1, v2, v3] (v0 :: st) h k z) := (amWp_dec rfl dJ4_append_2_26 rfl).trans rfl
theorem wJ4_append_2_27 {ret F n h k z} {v0 v1 v2 v3 r0 r1 a} : eJ4_append_2 ret F (n + 1) 27 [v0, v1, v2, v3] (.ref a :: r0 :: r1 :: []) h k z = (k + 0 ≤ 1 ∧ z + 0 ≤ 302 ∧ h.1 a = (0, 8) ∧ eJ4_append_2 ret F n 30 [v0, v1, v2, v3] (va_rf (h.2.2.2.1 a 0) :: r0 :: r1 :: []) h (k + 0) (z + 0)) := (amWp_dec rfl dJ4_append_2_27 rfl).trans (amS2 (Nat.le_of_ble_eq_true rfl) (Nat.le_of_ble_eq_true rfl))
theorem wJ4_append_2_30 {ret F n h k z} {v0 v1 v2 v3 x2 x1 x0} : eJ4_append_2 ret F (n + 1) 30 [v0, v1, v2, v3] (.ref x2 :: .int x1 :: .int x0 :: []) h k z = (k + 0 ≤ 1 ∧ z + 0 ≤ 302 ∧ tJ2_getChars [.int x0, .int x1, .ref x2] h (fun v h => eJ4_append_2 ret F n 33 [v0, v1, v2, v3] (v.toList ++ ([])) h (k + 0) (z + 0))) := (amWp_dec rfl dJ4_append_2_30 rfl).trans (amS2 (Nat.le_of_ble_eq_true rfl) (Nat.le_of_ble_eq_true rfl))
theorem wJ4_append_2_33 {ret F n ls st h k z} : eJ4_append_2 ret F (n + 1) 33 ls st h k z = F 33 ls st h k z := amWp_cut rfl
theorem uJ4_append_2_33 {ret F n h k z} {v0 v1 v2 v3 st x} : sJ4_append_2 ret F n 33 [v0, v1, v2, v3] (.int x :: st) h k z = (eJ4_append_2 ret F n 34 [v0, v1, v2, v3] (st) h k z) := (amWs_dec dJ4_append_2_33 rfl).trans (amTrue rfl)
theorem wJ4_append_2_34 {ret F n h k z} {v0 v1 v2 v3 st} : eJ4_append_2 ret F (n + 1) 34 [v0, v1, v2, v3] (st) h k z = (eJ4_append_2 ret F n 48 [v0, v1, v2, v3] (st) h k z) := (amWp_dec rfl dJ4_append_2_34 rfl).trans rfl
theorem wJ4_append_2_48 {ret F n h k z} {v0 v1 v2 v3 st} : eJ4_append_2 ret F (n + 1) 48 [v0, v1, v2, v3] (st) h k z = (amIsR v0 ∧ eJ4_append_2 ret F n 49 [v0, v1, v2, v3] (v0 :: st) h k z) := (amWp_dec rfl dJ4_append_2_48 rfl).trans rfl
theorem wJ4_append_2_49 {ret F n h k z} {v0 v1 v2 st x} : eJ4_append_2 ret F (n + 1) 49 [v0, v1, v2, .int x] (st) h k z = (eJ4_append_2 ret F n 50 [v0, v1, v2, .int x] (.int x :: st) h k z) := (amWp_dec rfl dJ4_append_2_49 rfl).trans rfl
theorem wJ4_append_2_50 {ret F n h k z} {v0 v1 v2 v3 x a} : eJ4_append_2 ret F (n + 1) 50 [v0, v1, v2, v3] (.int x :: .ref a :: []) h k z = (k + 0 ≤ 1 ∧ z + 0 ≤ 302 ∧ h.1 a = (0, 8) ∧ amN0 ≤ a ∧ amFit .int (.int x) ∧ eJ4_append_2 ret F n 53 [v0, v1, v2, v3] ([]) (amSI h (amU h.2.1 a 3 x)) (k + 0) (z + 0)) := (amWp_dec rfl dJ4_append_2_50 rfl).trans (amS2 (Nat.le_of_ble_eq_true rfl) (Nat.le_of_ble_eq_true rfl))
theorem wJ4_append_2_53 {ret F n h k z} {v0 v1 v2 v3 st} : eJ4_append_2 ret F (n + 1) 53 [v0, v1, v2, v3] (st) h k z = (amIsR v0 ∧ eJ4_append_2 ret F n 54 [v0, v1, v2, v3] (v0 :: st) h k z) := (amWp_dec rfl dJ4_append_2_53 rfl).trans rfl
theorem wJ4_append_2_54 {ret F n h k z} {v0 v1 v2 v3 w} : eJ4_append_2 ret F (n + 1) 54 [v0, v1, v2, v3] ([w]) h k z = (amIsR w ∧ ret (some w) h k z) := (amWp_dec rfl dJ4_append_2_54 rfl).trans (amTrue ⟨_, rfl, rfl⟩)
theorem evJ4_append_2 (l : Launch) (G : amG) : ∀ pc S i sz, amLk rJ4_append_2 pc = some S → decode cJ4_append_2 pc = .ok (i, sz) → amSiteP pc G l yJ4_append_2.cls yJ4_append_2.name yJ4_append_2.desc (amRm 4 1 302) i sz S.1 S.2.1 S.2.2.1 S.2.2.2 := amLk_ok (by
  refine List.forall_mem_cons.mpr ⟨⟨_, _, dJ4_append_2_1, amSite.P (amSiteGet ⟨_, rfl, by decide, Or.inl q626⟩)⟩, ?_⟩
  refine List.forall_mem_cons.mpr ⟨⟨_, _, dJ4_append_2_7, amSite.P (amSiteS (metJ2_stringSize l G) rfl (by decide) (by decide) (lw_S q765 q766 q97 q767) ⟨by decide +kernel, by decide +kernel, by decide +kernel⟩)⟩, ?_⟩
  refine List.forall_mem_cons.mpr ⟨⟨_, _, dJ4_append_2_14, amSite.P (amSiteU (C := RJ5) (metJ4_ensureCapacityInternal l G) rfl (by decide) (by decide) q649 q1721 (Or.inr (List.mem_of_getElem? (i := 40) rfl)) q651 q100 q652 ⟨_, rfl, rfl⟩ ⟨by decide +kernel, by decide +kernel, by decide +kernel⟩)⟩, ?_⟩
  refine List.forall_mem_cons.mpr ⟨⟨_, _, dJ4_append_2_18, amSite.P (amSiteU (C := RJ5) (metJ4_isLatin1 l G) rfl (by decide) (by decide) q680 q682 (Or.inl q683) q681 q100 q684 ⟨_, rfl, rfl⟩ ⟨by decide +kernel, by decide +kernel, by decide +kernel⟩)⟩, ?_⟩
  refine List.forall_mem_cons.mpr ⟨⟨_, _, dJ4_append_2_27, amSite.P (amSiteGet ⟨_, rfl, by decide, Or.inl q623⟩)⟩, ?_⟩
  refine List.forall_mem_cons.mpr ⟨⟨_, _, dJ4_append_2_30, amSite.P (amSiteS (metJ2_getCharsP l G) rfl (by decide) (by decide) (lw_S q768 q769 q97 q770) ⟨by decide +kernel, by decide +kernel, by decide +kernel⟩)⟩, ?_⟩
  refine List.forall_mem_cons.mpr ⟨⟨_, _, dJ4_append_2_50, amSite.P (amSitePut ⟨_, rfl, by decide, Or.inl q626⟩ (fun q h => by cases h; rfl))⟩, ?_⟩
  exact fun _ h => absurd h List.not_mem_nil)
theorem goJ4_append_2 {ret F} (hF : amCld cJ4_append_2 kJ4_append_2 (amLk rJ4_append_2) (some (FieldType.object "java/lang/AbstractStringBuilder")) 1 302 ret F) (n : Nat) {pc ls st h k z} (q : sJ4_append_2 ret F n pc ls st h k z) : F pc ls st h k z := hF.1 n pc ls st h k z q
theorem metJ4_append_2 (l : Launch) (G : amG) : amMet l G yJ4_append_2 (ws_ yJ4_append_2 cJ4_append_2 4 (some (FieldType.object "java/lang/AbstractStringBuilder"))) 4 1 302 tJ4_append_2 := by
  refine amMet_of (cut := kJ4_append_2) (by decide +kernel) (evJ4_append_2 l G) ?_
  intro as h K hT
  match as, hT with
  | [.ref b, .int x], ⟨n0, w, t, ⟨v, cap, n24, nb, nv, bn, vn, hV⟩, e, hw, tu, hK⟩ =>
  refine ⟨Nat.le_of_ble_eq_true rfl, fun F hF => ?_⟩
  show F 0 [.ref b, .int x, .retAddr 0, .retAddr 0] [] h 0 0
  obtain ⟨b, rfl⟩ : ∃ i : Nat, i = b := ⟨_, rfl⟩
  subst e
  have b1 := hV.1
  have b4 := hV.2.2.2.1
  have dl := digL_len w
  refine goJ4_append_2 hF 60 ?_
  simp (disch := omega) only [wJ4_append_2_0, uJ4_append_2_0, wJ4_append_2_1, wJ4_append_2_4, wJ4_append_2_5, wJ4_append_2_6, wJ4_append_2_7, wJ4_append_2_10, wJ4_append_2_11, wJ4_append_2_12, wJ4_append_2_13, wJ4_append_2_14, wJ4_append_2_17, uJ4_append_2_17, wJ4_append_2_18, wJ4_append_2_21, wJ4_append_2_24, wJ4_append_2_25, wJ4_append_2_26, wJ4_append_2_27, wJ4_append_2_30, wJ4_append_2_33, uJ4_append_2_33, wJ4_append_2_34, wJ4_append_2_48, wJ4_append_2_49, wJ4_append_2_50, wJ4_append_2_53, wJ4_append_2_54, amSI_1, amSI_2, amSI_3, amSI_s, amU_at, amIsR_ref, amIsR_null, amIsR_rf, amRf_some, amRf_none, amClr_int, amClr_ref, amClr_null, amClr_long, amClr_ra, amClr_rf, amFit_int, amFit_oref, amFit_aref, amFit_onull, amFit_anull, amOptSome, amOptNone, List.cons_append, List.nil_append, true_and, and_true, true_implies, not_true_eq_false, not_false_eq_true, false_implies, and_self, Nat.add_zero, Nat.zero_add, ne_eq, Prod.mk.injEq, amC01_0, amC01_1, amC01_nb, amNb0, amNb1, amTcpI_d, Nat.reduceLeDiff, Nat.reduceAdd, Nat.reduceSub, Nat.reduceEqDiff, Nat.le_refl, amN0le, amLeI, amLtI, amEqI, amLe0, amGt0, amEq0, amNotPosI, amGe0, amVI, amCl_nI, amAdd, amSub, amMul, b1, b4]
  rw [tJ2_stringSize_d]
  refine ⟨w, rfl, hw, ?_⟩
  simp (disch := omega) only [wJ4_append_2_0, uJ4_append_2_0, wJ4_append_2_1, wJ4_append_2_4, wJ4_append_2_5, wJ4_append_2_6, wJ4_append_2_7, wJ4_append_2_10, wJ4_append_2_11, wJ4_append_2_12, wJ4_append_2_13, wJ4_append_2_14, wJ4_append_2_17, uJ4_append_2_17, wJ4_append_2_18, wJ4_append_2_21, wJ4_append_2_24, wJ4_append_2_25, wJ4_append_2_26, wJ4_append_2_27, wJ4_append_2_30, wJ4_append_2_33, uJ4_append_2_33, wJ4_append_2_34, wJ4_append_2_48, wJ4_append_2_49, wJ4_append_2_50, wJ4_append_2_53, wJ4_append_2_54, amSI_1, amSI_2, amSI_3, amSI_s, amU_at, amIsR_ref, amIsR_null, amIsR_rf, amRf_some, amRf_none, amClr_int, amClr_ref, amClr_null, amClr_long, amClr_ra, amClr_rf, amFit_int, amFit_oref, amFit_aref, amFit_onull, amFit_anull, amOptSome, amOptNone, List.cons_append, List.nil_append, true_and, and_true, true_implies, not_true_eq_false, not_false_eq_true, false_implies, and_self, Nat.add_zero, Nat.zero_add, ne_eq, Prod.mk.injEq, amC01_0, amC01_1, amC01_nb, amNb0, amNb1, amTcpI_d, Nat.reduceLeDiff, Nat.reduceAdd, Nat.reduceSub, Nat.reduceEqDiff, Nat.le_refl, amN0le, amLeI, amLtI, amEqI, amLe0, amGt0, amEq0, amNotPosI, amGe0, amVI, amCl_nI, amAdd, amSub, amMul, b1, b4]
  rw [tJ4_ensureCapacityInternal_d]
  refine ⟨n0, v, cap, t.length + (digL w).length, t, n24, nb, nv, bn, vn, hV, rfl, by omega, by omega, fun h1 v1 cap1 hn hf nv1 vn1 hV1 mc => ?_⟩
  have hV1' := hV1
  obtain ⟨c1, c2, c3, c4, c5, c6, c7, c8, c9⟩ := hV1'
  have vb := hV1.ne
  have b24 : (amN0 ≤ b) = True := eq_true (show 24 ≤ b by omega)
  have nz : (nI 1 = nI 0) = False := by decide
  refine goJ4_append_2 hF 60 ?_
  simp (disch := omega) only [wJ4_append_2_0, uJ4_append_2_0, wJ4_append_2_1, wJ4_append_2_4, wJ4_append_2_5, wJ4_append_2_6, wJ4_append_2_7, wJ4_append_2_10, wJ4_append_2_11, wJ4_append_2_12, wJ4_append_2_13, wJ4_append_2_14, wJ4_append_2_17, uJ4_append_2_17, wJ4_append_2_18, wJ4_append_2_21, wJ4_append_2_24, wJ4_append_2_25, wJ4_append_2_26, wJ4_append_2_27, wJ4_append_2_30, wJ4_append_2_33, uJ4_append_2_33, wJ4_append_2_34, wJ4_append_2_48, wJ4_append_2_49, wJ4_append_2_50, wJ4_append_2_53, wJ4_append_2_54, amSI_1, amSI_2, amSI_3, amSI_s, amU_at, amIsR_ref, amIsR_null, amIsR_rf, amRf_some, amRf_none, amClr_int, amClr_ref, amClr_null, amClr_long, amClr_ra, amClr_rf, amFit_int, amFit_oref, amFit_aref, amFit_onull, amFit_anull, amOptSome, amOptNone, List.cons_append, List.nil_append, true_and, and_true, true_implies, not_true_eq_false, not_false_eq_true, false_implies, and_self, Nat.add_zero, Nat.zero_add, ne_eq, Prod.mk.injEq, amC01_0, amC01_1, amC01_nb, amNb0, amNb1, amTcpI_d, Nat.reduceLeDiff, Nat.reduceAdd, Nat.reduceSub, Nat.reduceEqDiff, Nat.le_refl, amN0le, amLeI, amLtI, amEqI, amLe0, amGt0, amEq0, amNotPosI, amGe0, amVI, amCl_nI, amAdd, amSub, amMul, c1, c2, c3, tJ4_isLatin1_d]
  rw [tJ2_getChars_d]
  refine ⟨w, t.length + (digL w).length, cap1, rfl, hw, rfl, by omega, mc, by omega, c5, by omega, fun m' p1 p2 p3 => ?_⟩
  rw [Nat.add_sub_cancel] at p2 p3
  have fin := sbDone (h0 := h) (h1 := h1) (u := digL w) (m := amU m' b 3 (nI (t.length + (digL w).length))) n24 nb nv1 (by omega) vn1 hn (fun i hi => hf i (by omega) (by omega)) hV1 mc (digL_lt w hw) (fun i a1 a2 => by
    rw [amU_neR a1]; exact p1 i a2) (by
    rw [amU_nj (by decide), p1 b (Ne.symm vb)]) (by rw [amU_at]) (fun j hj => by
    rw [amU_ne vb]; exact p2 j hj) (fun j hj => by
    rw [amU_ne vb]; exact p3 j hj)
  have key := hK _ fin.1 fin.2
  refine goJ4_append_2 hF 60 ?_
  simp (disch := omega) only [wJ4_append_2_0, uJ4_append_2_0, wJ4_append_2_1, wJ4_append_2_4, wJ4_append_2_5, wJ4_append_2_6, wJ4_append_2_7, wJ4_append_2_10, wJ4_append_2_11, wJ4_append_2_12, wJ4_append_2_13, wJ4_append_2_14, wJ4_append_2_17, uJ4_append_2_17, wJ4_append_2_18, wJ4_append_2_21, wJ4_append_2_24, wJ4_append_2_25, wJ4_append_2_26, wJ4_append_2_27, wJ4_append_2_30, wJ4_append_2_33, uJ4_append_2_33, wJ4_append_2_34, wJ4_append_2_48, wJ4_append_2_49, wJ4_append_2_50, wJ4_append_2_53, wJ4_append_2_54, amSI_1, amSI_2, amSI_3, amSI_s, amU_at, amIsR_ref, amIsR_null, amIsR_rf, amRf_some, amRf_none, amClr_int, amClr_ref, amClr_null, amClr_long, amClr_ra, amClr_rf, amFit_int, amFit_oref, amFit_aref, amFit_onull, amFit_anull, amOptSome, amOptNone, List.cons_append, List.nil_append, true_and, and_true, true_implies, not_true_eq_false, not_false_eq_true, false_implies, and_self, Nat.add_zero, Nat.zero_add, ne_eq, Prod.mk.injEq, amC01_0, amC01_1, amC01_nb, amNb0, amNb1, amTcpI_d, Nat.reduceLeDiff, Nat.reduceAdd, Nat.reduceSub, Nat.reduceEqDiff, Nat.le_refl, amN0le, c1, b24]
  exact amRet.of (by decide) (by decide) key
theorem tJ4_append_2_d {b : Nat} {x : Int32} {h : amH} {K : Option Value → amH → Prop} : tJ4_append_2 [.ref b, .int x] h K = ∃ (n0 v : Nat) (t : List Nat), SbAt h n0 b t ∧ x = nI v ∧ v ≤ 99 ∧ t.length + 2 ≤ 150 ∧ ∀ h', gFr h h' n0 → SbAt h' n0 b (t ++ digL v) → K (some (.ref b)) h' := rfl
def tJ5_append_2 : amT := fun as h K => match as with
  | [.ref b, .int x] => ∃ (n0 v : Nat) (t : List Nat), SbAt h n0 b t ∧ x = nI v ∧ v ≤ 99 ∧ t.length + 2 ≤ 150 ∧ ∀ h', gFr h h' n0 → SbAt h' n0 b (t ++ digL v) → K (some (.ref b)) h'
  | _ => False
/-! java/lang/StringBuilder.append(I)Ljava/lang/StringBuilder; -/
def kJ5_append_2 : Nat → Bool := fun pc => pc == 5
def rJ5_append_2 : List (Nat × amS) := [(2, 2, 1, 302, (amRecv 8 tJ4_append_2))]
def eJ5_append_2 (ret : Option Value → amH → Nat → Nat → Prop) (F : amX) : Nat → amX := amWp cJ5_append_2 kJ5_append_2 (amLk rJ5_append_2) (some (FieldType.object "java/lang/StringBuilder")) 1 302 ret F
def sJ5_append_2 (ret : Option Value → amH → Nat → Nat → Prop) (F : amX) : Nat → amX := amWs cJ5_append_2 kJ5_append_2 (amLk rJ5_append_2) (some (FieldType.object "java/lang/StringBuilder")) 1 302 ret F
theorem wJ5_append_2_0 {ret F n h k z} {v0 v1 st} : eJ5_append_2 ret F (n + 1) 0 [v0, v1] (st) h k z = (amIsR v0 ∧ eJ5_append_2 ret F n 1 [v0, v1] (v0 :: st) h k z) := (amWp_dec rfl dJ5_append_2_0 rfl).trans rfl
theorem uJ5_append_2_0 {ret F n h k z} {v0 v1 st} : sJ5_append_2 ret F n 0 [v0, v1] (st) h k z = (amIsR v0 ∧ eJ5_append_2 ret F n 1 [v0, v1] (v0 :: st) h k z) := (amWs_dec dJ5_append_2_0 rfl).trans rfl
theorem wJ5_append_2_1 {ret F n h k z} {v0 st x} : eJ5_append_2 ret F (n + 1) 1 [v0, .int x] (st) h k z = (eJ5_append_2 ret F n 2 [v0, .int x] (.int x :: st) h k z) := (amWp_dec rfl dJ5_append_2_1 rfl).trans rfl
theorem wJ5_append_2_2 {ret F n h k z} {v0 v1 x1 x0} : eJ5_append_2 ret F (n + 1) 2 [v0, v1] (.int x1 :: .ref x0 :: []) h k z = (k + 1 ≤ 1 ∧ z + 302 ≤ 302 ∧ h.1 x0 = (0, 8) ∧ tJ4_append_2 [.ref x0, .int x1] h (fun v h => eJ5_append_2 ret F n 5 [v0, v1] (v.toList ++ ([])) h (k + 1) (z + 302))) := (amWp_dec rfl dJ5_append_2_2 rfl).trans (amS2 (Nat.le_of_ble_eq_true rfl) (Nat.le_of_ble_eq_true rfl))
theorem wJ5_append_2_5 {ret F n ls st h k z} : eJ5_append_2 ret F (n + 1) 5 ls st h k z = F 5 ls st h k z := amWp_cut rfl
theorem uJ5_append_2_5 {ret F n h k z} {v0 v1 st b} : sJ5_append_2 ret F n 5 [v0, v1] (.ref b :: st) h k z = (eJ5_append_2 ret F n 6 [v0, v1] (st) h k z) := (amWs_dec dJ5_append_2_5 rfl).trans (amTrue rfl)
theorem wJ5_append_2_6 {ret F n h k z} {v0 v1 st} : eJ5_append_2 ret F (n + 1) 6 [v0, v1] (st) h k z = (amIsR v0 ∧ eJ5_append_2 ret F n 7 [v0, v1] (v0 :: st) h k z) := (amWp_dec rfl dJ5_append_2_6 rfl).trans rfl
theorem wJ5_append_2_7 {ret F n h k z} {v0 v1 w} : eJ5_append_2 ret F (n + 1) 7 [v0, v1] ([w]) h k z = (amIsR w ∧ ret (some w) h k z) := (amWp_dec rfl dJ5_append_2_7 rfl).trans (amTrue ⟨_, rfl, rfl⟩)
theorem evJ5_append_2 (l : Launch) (G : amG) : ∀ pc S i sz, amLk rJ5_append_2 pc = some S → decode cJ5_append_2 pc = .ok (i, sz) → amSiteP pc G l yJ5_append_2.cls yJ5_append_2.name yJ5_append_2.desc (amRm 5 1 302) i sz S.1 S.2.1 S.2.2.1 S.2.2.2 := amLk_ok (by
  refine List.forall_mem_cons.mpr ⟨⟨_, _, dJ5_append_2_2, amSite.P (amSiteSU (C := RJ5) (metJ4_append_2 l G) rfl (by decide) (by decide) q762 q1726 q635 q763 q100 q764 ⟨_, rfl, rfl⟩ ⟨by decide +kernel, by decide +kernel⟩)⟩, ?_⟩
  exact fun _ h => absurd h List.not_mem_nil)
theorem goJ5_append_2 {ret F} (hF : amCld cJ5_append_2 kJ5_append_2 (amLk rJ5_append_2) (some (FieldType.object "java/lang/StringBuilder")) 1 302 ret F) (n : Nat) {pc ls st h k z} (q : sJ5_append_2 ret F n pc ls st h k z) : F pc ls st h k z := hF.1 n pc ls st h k z q
theorem metJ5_append_2 (l : Launch) (G : amG) : amMet l G yJ5_append_2 (ws_ yJ5_append_2 cJ5_append_2 2 (some (FieldType.object "java/lang/StringBuilder"))) 5 1 302 tJ5_append_2 := by
  refine amMet_of (cut := kJ5_append_2) (by decide +kernel) (evJ5_append_2 l G) ?_
  intro as h K hT
  match as, hT with
  | [.ref b, .int x], ⟨n0, v, t, hB, e, hv, tu, hK⟩ =>
  refine ⟨Nat.le_of_ble_eq_true rfl, fun F hF => ?_⟩
  show F 0 [.ref b, .int x] [] h 0 0
  obtain ⟨b, rfl⟩ : ∃ i : Nat, i = b := ⟨_, rfl⟩
  have b1 := hB.cl
  refine goJ5_append_2 hF 60 ?_
  simp (disch := omega) only [wJ5_append_2_0, uJ5_append_2_0, wJ5_append_2_1, wJ5_append_2_2, wJ5_append_2_5, uJ5_append_2_5, wJ5_append_2_6, wJ5_append_2_7, amSI_1, amSI_2, amSI_3, amSI_s, amU_at, amIsR_ref, amIsR_null, amIsR_rf, amRf_some, amRf_none, amClr_int, amClr_ref, amClr_null, amClr_long, amClr_ra, amClr_rf, amFit_int, amFit_oref, amFit_aref, amFit_onull, amFit_anull, amOptSome, amOptNone, List.cons_append, List.nil_append, true_and, and_true, true_implies, not_true_eq_false, not_false_eq_true, false_implies, and_self, Nat.add_zero, Nat.zero_add, ne_eq, Prod.mk.injEq, amC01_0, amC01_1, amC01_nb, amNb0, amNb1, amTcpI_d, Nat.reduceLeDiff, Nat.reduceAdd, Nat.reduceSub, Nat.reduceEqDiff, Nat.le_refl, amN0le, b1]
  rw [tJ4_append_2_d]
  refine ⟨n0, v, t, hB, e, hv, tu, fun h' f1 f2 => ?_⟩
  have key := hK h' f1 f2
  refine goJ5_append_2 hF 60 ?_
  simp (disch := omega) only [wJ5_append_2_0, uJ5_append_2_0, wJ5_append_2_1, wJ5_append_2_2, wJ5_append_2_5, uJ5_append_2_5, wJ5_append_2_6, wJ5_append_2_7, amSI_1, amSI_2, amSI_3, amSI_s, amU_at, amIsR_ref, amIsR_null, amIsR_rf, amRf_some, amRf_none, amClr_int, amClr_ref, amClr_null, amClr_long, amClr_ra, amClr_rf, amFit_int, amFit_oref, amFit_aref, amFit_onull, amFit_anull, amOptSome, amOptNone, List.cons_append, List.nil_append, true_and, and_true, true_implies, not_true_eq_false, not_false_eq_true, false_implies, and_self, Nat.add_zero, Nat.zero_add, ne_eq, Prod.mk.injEq, amC01_0, amC01_1, amC01_nb, amNb0, amNb1, amTcpI_d, Nat.reduceLeDiff, Nat.reduceAdd, Nat.reduceSub, Nat.reduceEqDiff, Nat.le_refl, amN0le, b1]
  exact amRet.of (by decide) (by decide) key
theorem tJ5_append_2_d {b : Nat} {x : Int32} {h : amH} {K : Option Value → amH → Prop} : tJ5_append_2 [.ref b, .int x] h K = ∃ (n0 v : Nat) (t : List Nat), SbAt h n0 b t ∧ x = nI v ∧ v ≤ 99 ∧ t.length + 2 ≤ 150 ∧ ∀ h', gFr h h' n0 → SbAt h' n0 b (t ++ digL v) → K (some (.ref b)) h' := rfl
def tJ13_canEncode : amT := fun as h K => match as with
  | [.int x] => ∃ c : Nat, x = nI c ∧ c < 128 ∧ K (some (.int (nI 1))) h
  | _ => False
/-! java/lang/StringLatin1.canEncode(C)Z -/
def kJ13_canEncode : Nat → Bool := fun pc => false
def rJ13_canEncode : List (Nat × amS) := []
def eJ13_canEncode (ret : Option Value → amH → Nat → Nat → Prop) (F : amX) : Nat → amX := amWp cJ13_canEncode kJ13_canEncode (amLk rJ13_canEncode) (some .boolean) 0 0 ret F
def sJ13_canEncode (ret : Option Value → amH → Nat → Nat → Prop) (F : amX) : Nat → amX := amWs cJ13_canEncode kJ13_canEncode (amLk rJ13_canEncode) (some .boolean) 0 0 ret F
theorem wJ13_canEncode_0 {ret F n h} {st x} : eJ13_canEncode ret F (n + 1) 0 [.int x] (st) h 0 0 = (eJ13_canEncode ret F n 1 [.int x] (.int x :: st) h 0 0) := (amWp_dec rfl dJ13_canEncode_0 rfl).trans rfl
theorem uJ13_canEncode_0 {ret F n h} {st x} : sJ13_canEncode ret F n 0 [.int x] (st) h 0 0 = (eJ13_canEncode ret F n 1 [.int x] (.int x :: st) h 0 0) := (amWs_dec dJ13_canEncode_0 rfl).trans rfl
theorem wJ13_canEncode_1 {ret F n h} {v0 st} : eJ13_canEncode ret F (n + 1) 1 [v0] (st) h 0 0 = (eJ13_canEncode ret F n 4 [v0] (.int (nI 255) :: st) h 0 0) := (amWp_dec rfl dJ13_canEncode_1 rfl).trans rfl
theorem wJ13_canEncode_4 {ret F n h} {v0 st y x} : eJ13_canEncode ret F (n + 1) 4 [v0] (.int y :: .int x :: st) h 0 0 = ((y < x → eJ13_canEncode ret F n 11 [v0] (st) h 0 0) ∧ (¬ y < x → eJ13_canEncode ret F n 7 [v0] (st) h 0 0)) := (amWp_dec rfl dJ13_canEncode_4 rfl).trans rfl
theorem wJ13_canEncode_7 {ret F n h} {v0 st} : eJ13_canEncode ret F (n + 1) 7 [v0] (st) h 0 0 = (eJ13_canEncode ret F n 8 [v0] (.int (nI 1) :: st) h 0 0) := (amWp_dec rfl dJ13_canEncode_7 rfl).trans rfl
theorem wJ13_canEncode_8 {ret F n h} {v0 st} : eJ13_canEncode ret F (n + 1) 8 [v0] (st) h 0 0 = (eJ13_canEncode ret F n 12 [v0] (st) h 0 0) := (amWp_dec rfl dJ13_canEncode_8 rfl).trans rfl
theorem wJ13_canEncode_11 {ret F n h} {v0 st} : eJ13_canEncode ret F (n + 1) 11 [v0] (st) h 0 0 = (eJ13_canEncode ret F n 12 [v0] (.int (nI 0) :: st) h 0 0) := (amWp_dec rfl dJ13_canEncode_11 rfl).trans rfl
theorem wJ13_canEncode_12 {ret F n h} {v0 x} : eJ13_canEncode ret F (n + 1) 12 [v0] ([.int x]) h 0 0 = (narrow .boolean (.int x) = .int x ∧ ret (some (.int x)) h 0 0) := (amWp_dec rfl dJ13_canEncode_12 rfl).trans (amRetTy)
theorem evJ13_canEncode (l : Launch) (G : amG) : ∀ pc S i sz, amLk rJ13_canEncode pc = some S → decode cJ13_canEncode pc = .ok (i, sz) → amSiteP pc G l yJ13_canEncode.cls yJ13_canEncode.name yJ13_canEncode.desc (amRm 1 0 0) i sz S.1 S.2.1 S.2.2.1 S.2.2.2 := amLk_ok (by
  exact fun _ h => absurd h List.not_mem_nil)
theorem goJ13_canEncode {ret F} (hF : amCld cJ13_canEncode kJ13_canEncode (amLk rJ13_canEncode) (some .boolean) 0 0 ret F) (n : Nat) {pc ls st h k z} (q : sJ13_canEncode ret F n pc ls st h k z) : F pc ls st h k z := hF.1 n pc ls st h k z q
theorem metJ13_canEncode (l : Launch) (G : amG) : amMet l G yJ13_canEncode (ws_ yJ13_canEncode cJ13_canEncode 1 (some .boolean)) 1 0 0 tJ13_canEncode := by
  refine amMet_of (cut := kJ13_canEncode) (by decide +kernel) (evJ13_canEncode l G) ?_
  intro as h K hT
  match as, hT with
  | [.int x], ⟨c, e, hc, hK⟩ =>
  refine ⟨Nat.le_of_ble_eq_true rfl, fun F hF => ?_⟩
  show F 0 [.int x] [] h 0 0
  subst e
  have q : (255 < c) = False := eq_false (by omega)
  refine goJ13_canEncode hF 60 ?_
  simp (disch := omega) only [wJ13_canEncode_0, uJ13_canEncode_0, wJ13_canEncode_1, wJ13_canEncode_4, wJ13_canEncode_7, wJ13_canEncode_8, wJ13_canEncode_11, wJ13_canEncode_12, amSI_1, amSI_2, amSI_3, amSI_s, amU_at, amIsR_ref, amIsR_null, amIsR_rf, amRf_some, amRf_none, amClr_int, amClr_ref, amClr_null, amClr_long, amClr_ra, amClr_rf, amFit_int, amFit_oref, amFit_aref, amFit_onull, amFit_anull, amOptSome, amOptNone, List.cons_append, List.nil_append, true_and, and_true, true_implies, not_true_eq_false, not_false_eq_true, false_implies, and_self, Nat.add_zero, Nat.zero_add, ne_eq, Prod.mk.injEq, amC01_0, amC01_1, amC01_nb, amNb0, amNb1, amTcpI_d, Nat.reduceLeDiff, Nat.reduceAdd, Nat.reduceSub, Nat.reduceEqDiff, Nat.le_refl, amN0le, amLeI, amLtI, amEqI, amLe0, amGt0, amEq0, amNotPosI, amGe0, amVI, amCl_nI, amAdd, amSub, amMul, amLtI, q]
  exact amRet.of (by decide) (by decide) hK
theorem tJ13_canEncode_d {x : Int32} {h : amH} {K : Option Value → amH → Prop} : tJ13_canEncode [.int x] h K = ∃ c : Nat, x = nI c ∧ c < 128 ∧ K (some (.int (nI 1))) h := rfl
def tJ4_append_3 : amT := fun as h K => match as with
  | [.ref b, .int x] => ∃ (n0 c : Nat) (t : List Nat), SbAt h n0 b t ∧ x = nI c ∧ c < 128 ∧ t.length + 1 ≤ 150 ∧ ∀ h', gFr h h' n0 → SbAt h' n0 b (t ++ [c]) → K (some (.ref b)) h'
  | _ => False
/-! java/lang/AbstractStringBuilder.append(C)Ljava/lang/AbstractStringBuilder; -/
def kJ4_append_3 : Nat → Bool := fun pc => pc == 10
def rJ4_append_3 : List (Nat × amS) := [(2, 1, 0, 0, amTget 8 3), (7, 2, 1, 302, (amRecv 8 tJ4_ensureCapacityInternal)), (11, 1, 0, 0, (amRecv 8 tJ4_isLatin1)), (18, 1, 0, 0, tJ13_canEncode), (25, 1, 0, 0, amTget 8 0), (30, 1, 0, 0, amTget 8 3), (36, 2, 0, 0, amTput 8 3)]
def eJ4_append_3 (ret : Option Value → amH → Nat → Nat → Prop) (F : amX) : Nat → amX := amWp cJ4_append_3 kJ4_append_3 (amLk rJ4_append_3) (some (FieldType.object "java/lang/AbstractStringBuilder")) 1 302 ret F
def sJ4_append_3 (ret : Option Value → amH → Nat → Nat → Prop) (F : amX) : Nat → amX := amWs cJ4_append_3 kJ4_append_3 (amLk rJ4_append_3) (some (FieldType.object "java/lang/AbstractStringBuilder")) 1 302 ret F
theorem wJ4_append_3_0 {ret F n h k z} {v0 v1 st} : eJ4_append_3 ret F (n + 1) 0 [v0, v1] (st) h k z = (amIsR v0 ∧ eJ4_append_3 ret F n 1 [v0, v1] (v0 :: st) h k z) := (amWp_dec rfl dJ4_append_3_0 rfl).trans rfl
theorem uJ4_append_3_0 {ret F n h k z} {v0 v1 st} : sJ4_append_3 ret F n 0 [v0, v1] (st) h k z = (amIsR v0 ∧ eJ4_append_3 ret F n 1 [v0, v1] (v0 :: st) h k z) := (amWs_dec dJ4_append_3_0 rfl).trans rfl
theorem wJ4_append_3_1 {ret F n h k z} {v0 v1 st} : eJ4_append_3 ret F (n + 1) 1 [v0, v1] (st) h k z = (amIsR v0 ∧ eJ4_append_3 ret F n 2 [v0, v1] (v0 :: st) h k z) := (amWp_dec rfl dJ4_append_3_1 rfl).trans rfl
theorem wJ4_append_3_2 {ret F n h k z} {v0 v1 r0 a} : eJ4_append_3 ret F (n + 1) 2 [v0, v1] (.ref a :: r0 :: []) h k z = (k + 0 ≤ 1 ∧ z + 0 ≤ 302 ∧ h.1 a = (0, 8) ∧ eJ4_append_3 ret F n 5 [v0, v1] (.int (h.2.1 a 3) :: r0 :: []) h (k + 0) (z + 0)) := (amWp_dec rfl dJ4_append_3_2 rfl).trans (amS2 (Nat.le_of_ble_eq_true rfl) (Nat.le_of_ble_eq_true rfl))
theorem wJ4_append_3_5 {ret F n h k z} {v0 v1 st} : eJ4_append_3 ret F (n + 1) 5 [v0, v1] (st) h k z = (eJ4_append_3 ret F n 6 [v0, v1] (.int (nI 1) :: st) h k z) := (amWp_dec rfl dJ4_append_3_5 rfl).trans rfl
theorem wJ4_append_3_6 {ret F n h k z} {v0 v1 st y x} : eJ4_append_3 ret F (n + 1) 6 [v0, v1] (.int y :: .int x :: st) h k z = (eJ4_append_3 ret F n 7 [v0, v1] (.int (x + y) :: st) h k z) := (amWp_dec rfl dJ4_append_3_6 rfl).trans rfl
theorem wJ4_append_3_7 {ret F n h k z} {v0 v1 x1 x0} : eJ4_append_3 ret F (n + 1) 7 [v0, v1] (.int x1 :: .ref x0 :: []) h k z = (k + 1 ≤ 1 ∧ z + 302 ≤ 302 ∧ h.1 x0 = (0, 8) ∧ tJ4_ensureCapacityInternal [.ref x0, .int x1] h (fun v h => eJ4_append_3 ret F n 10 [v0, v1] (v.toList ++ ([])) h (k + 1) (z + 302))) := (amWp_dec rfl dJ4_append_3_7 rfl).trans (amS2 (Nat.le_of_ble_eq_true rfl) (Nat.le_of_ble_eq_true rfl))
theorem wJ4_append_3_10 {ret F n ls st h k z} : eJ4_append_3 ret F (n + 1) 10 ls st h k z = F 10 ls st h k z := amWp_cut rfl
theorem uJ4_append_3_10 {ret F n h k z} {v0 v1 st} : sJ4_append_3 ret F n 10 [v0, v1] (st) h k z = (amIsR v0 ∧ eJ4_append_3 ret F n 11 [v0, v1] (v0 :: st) h k z) := (amWs_dec dJ4_append_3_10 rfl).trans rfl
theorem wJ4_append_3_11 {ret F n h k z} {v0 v1 x0} : eJ4_append_3 ret F (n + 1) 11 [v0, v1] (.ref x0 :: []) h k z = (k + 0 ≤ 1 ∧ z + 0 ≤ 302 ∧ h.1 x0 = (0, 8) ∧ tJ4_isLatin1 [.ref x0] h (fun v h => eJ4_append_3 ret F n 14 [v0, v1] (v.toList ++ ([])) h (k + 0) (z + 0))) := (amWp_dec rfl dJ4_append_3_11 rfl).trans (amS2 (Nat.le_of_ble_eq_true rfl) (Nat.le_of_ble_eq_true rfl))
theorem wJ4_append_3_14 {ret F n h k z} {v0 v1 st x} : eJ4_append_3 ret F (n + 1) 14 [v0, v1] (.int x :: st) h k z = ((x = 0 → eJ4_append_3 ret F n 45 [v0, v1] (st) h k z) ∧ (¬ x = 0 → eJ4_append_3 ret F n 17 [v0, v1] (st) h k z)) := (amWp_dec rfl dJ4_append_3_14 rfl).trans rfl
theorem wJ4_append_3_17 {ret F n h k z} {v0 st x} : eJ4_append_3 ret F (n + 1) 17 [v0, .int x] (st) h k z = (eJ4_append_3 ret F n 18 [v0, .int x] (.int x :: st) h k z) := (amWp_dec rfl dJ4_append_3_17 rfl).trans rfl
theorem wJ4_append_3_18 {ret F n h k z} {v0 v1 x0} : eJ4_append_3 ret F (n + 1) 18 [v0, v1] (.int x0 :: []) h k z = (k + 0 ≤ 1 ∧ z + 0 ≤ 302 ∧ tJ13_canEncode [.int x0] h (fun v h => eJ4_append_3 ret F n 21 [v0, v1] (v.toList ++ ([])) h (k + 0) (z + 0))) := (amWp_dec rfl dJ4_append_3_18 rfl).trans (amS2 (Nat.le_of_ble_eq_true rfl) (Nat.le_of_ble_eq_true rfl))
theorem wJ4_append_3_21 {ret F n h k z} {v0 v1 st x} : eJ4_append_3 ret F (n + 1) 21 [v0, v1] (.int x :: st) h k z = ((x = 0 → eJ4_append_3 ret F n 45 [v0, v1] (st) h k z) ∧ (¬ x = 0 → eJ4_append_3 ret F n 24 [v0, v1] (st) h k z)) := (amWp_dec rfl dJ4_append_3_21 rfl).trans rfl
theorem wJ4_append_3_24 {ret F n h k z} {v0 v1 st} : eJ4_append_3 ret F (n + 1) 24 [v0, v1] (st) h k z = (amIsR v0 ∧ eJ4_append_3 ret F n 25 [v0, v1] (v0 :: st) h k z) := (amWp_dec rfl dJ4_append_3_24 rfl).trans rfl
theorem wJ4_append_3_25 {ret F n h k z} {v0 v1 a} : eJ4_append_3 ret F (n + 1) 25 [v0, v1] (.ref a :: []) h k z = (k + 0 ≤ 1 ∧ z + 0 ≤ 302 ∧ h.1 a = (0, 8) ∧ eJ4_append_3 ret F n 28 [v0, v1] (va_rf (h.2.2.2.1 a 0) :: []) h (k + 0) (z + 0)) := (amWp_dec rfl dJ4_append_3_25 rfl).trans (amS2 (Nat.le_of_ble_eq_true rfl) (Nat.le_of_ble_eq_true rfl))
theorem wJ4_append_3_28 {ret F n h k z} {v0 v1 st} : eJ4_append_3 ret F (n + 1) 28 [v0, v1] (st) h k z = (amIsR v0 ∧ eJ4_append_3 ret F n 29 [v0, v1] (v0 :: st) h k z) := (amWp_dec rfl dJ4_append_3_28 rfl).trans rfl
theorem wJ4_append_3_29 {ret F n h k z} {v0 v1 st b} : eJ4_append_3 ret F (n + 1) 29 [v0, v1] (.ref b :: st) h k z = (eJ4_append_3 ret F n 30 [v0, v1] (.ref b :: .ref b :: st) h k z) := (amWp_dec rfl dJ4_append_3_29 rfl).trans (amTrue rfl)
theorem wJ4_append_3_30 {ret F n h k z} {v0 v1 r0 r1 a} : eJ4_append_3 ret F (n + 1) 30 [v0, v1] (.ref a :: r0 :: r1 :: []) h k z = (k + 0 ≤ 1 ∧ z + 0 ≤ 302 ∧ h.1 a = (0, 8) ∧ eJ4_append_3 ret F n 33 [v0, v1] (.int (h.2.1 a 3) :: r0 :: r1 :: []) h (k + 0) (z + 0)) := (amWp_dec rfl dJ4_append_3_30 rfl).trans (amS2 (Nat.le_of_ble_eq_true rfl) (Nat.le_of_ble_eq_true rfl))
theorem wJ4_append_3_33 {ret F n h k z} {v0 v1 st x a} : eJ4_append_3 ret F (n + 1) 33 [v0, v1] (.int x :: .ref a :: st) h k z = (eJ4_append_3 ret F n 34 [v0, v1] (.int x :: .ref a :: .int x :: st) h k z) := (amWp_dec rfl dJ4_append_3_33 rfl).trans (amS2 rfl rfl)
theorem wJ4_append_3_34 {ret F n h k z} {v0 v1 st} : eJ4_append_3 ret F (n + 1) 34 [v0, v1] (st) h k z = (eJ4_append_3 ret F n 35 [v0, v1] (.int (nI 1) :: st) h k z) := (amWp_dec rfl dJ4_append_3_34 rfl).trans rfl
theorem wJ4_append_3_35 {ret F n h k z} {v0 v1 st y x} : eJ4_append_3 ret F (n + 1) 35 [v0, v1] (.int y :: .int x :: st) h k z = (eJ4_append_3 ret F n 36 [v0, v1] (.int (x + y) :: st) h k z) := (amWp_dec rfl dJ4_append_3_35 rfl).trans rfl
theorem wJ4_append_3_36 {ret F n h k z} {v0 v1 r0 r1 x a} : eJ4_append_3 ret F (n + 1) 36 [v0, v1] (.int x :: .ref a :: r0 :: r1 :: []) h k z = (k + 0 ≤ 1 ∧ z + 0 ≤ 302 ∧ h.1 a = (0, 8) ∧ amN0 ≤ a ∧ amFit .int (.int x) ∧ eJ4_append_3 ret F n 39 [v0, v1] (r0 :: r1 :: []) (amSI h (amU h.2.1 a 3 x)) (k + 0) (z + 0)) := (amWp_dec rfl dJ4_append_3_36 rfl).trans (amS2 (Nat.le_of_ble_eq_true rfl) (Nat.le_of_ble_eq_true rfl))
theorem wJ4_append_3_39 {ret F n h k z} {v0 st x} : eJ4_append_3 ret F (n + 1) 39 [v0, .int x] (st) h k z = (eJ4_append_3 ret F n 40 [v0, .int x] (.int x :: st) h k z) := (amWp_dec rfl dJ4_append_3_39 rfl).trans rfl
theorem wJ4_append_3_40 {ret F n h k z} {v0 v1 st x} : eJ4_append_3 ret F (n + 1) 40 [v0, v1] (.int x :: st) h k z = (eJ4_append_3 ret F n 41 [v0, v1] (.int x.toInt8.toInt32 :: st) h k z) := (amWp_dec rfl dJ4_append_3_40 rfl).trans rfl
theorem wJ4_append_3_41 {ret F n h k z} {v0 v1 st y x a} : eJ4_append_3 ret F (n + 1) 41 [v0, v1] (.int y :: .int x :: .ref a :: st) h k z = ((h.1 a).1 = 2 ∧ vp_in x (h.1 a).2 ∧ amN0 ≤ a ∧ eJ4_append_3 ret F n 42 [v0, v1] (st) (amSI h (amU h.2.1 a x.toNatClampNeg (vp_nar .byte y))) k z) := (amWp_dec rfl dJ4_append_3_41 rfl).trans rfl
theorem wJ4_append_3_42 {ret F n h k z} {v0 v1 st} : eJ4_append_3 ret F (n + 1) 42 [v0, v1] (st) h k z = (eJ4_append_3 ret F n 75 [v0, v1] (st) h k z) := (amWp_dec rfl dJ4_append_3_42 rfl).trans rfl
theorem wJ4_append_3_75 {ret F n h k z} {v0 v1 st} : eJ4_append_3 ret F (n + 1) 75 [v0, v1] (st) h k z = (amIsR v0 ∧ eJ4_append_3 ret F n 76 [v0, v1] (v0 :: st) h k z) := (amWp_dec rfl dJ4_append_3_75 rfl).trans rfl
theorem wJ4_append_3_76 {ret F n h k z} {v0 v1 w} : eJ4_append_3 ret F (n + 1) 76 [v0, v1] ([w]) h k z = (amIsR w ∧ ret (some w) h k z) := (amWp_dec rfl dJ4_append_3_76 rfl).trans (amTrue ⟨_, rfl, rfl⟩)
theorem evJ4_append_3 (l : Launch) (G : amG) : ∀ pc S i sz, amLk rJ4_append_3 pc = some S → decode cJ4_append_3 pc = .ok (i, sz) → amSiteP pc G l yJ4_append_3.cls yJ4_append_3.name yJ4_append_3.desc (amRm 4 1 302) i sz S.1 S.2.1 S.2.2.1 S.2.2.2 := amLk_ok (by
  refine List.forall_mem_cons.mpr ⟨⟨_, _, dJ4_append_3_2, amSite.P (amSiteGet ⟨_, rfl, by decide, Or.inl q626⟩)⟩, ?_⟩
  refine List.forall_mem_cons.mpr ⟨⟨_, _, dJ4_append_3_7, amSite.P (amSiteU (C := RJ5) (metJ4_ensureCapacityInternal l G) rfl (by decide) (by decide) q649 q1721 (Or.inr (List.mem_of_getElem? (i := 40) rfl)) q651 q100 q652 ⟨_, rfl, rfl⟩ ⟨by decide +kernel, by decide +kernel, by decide +kernel⟩)⟩, ?_⟩
  refine List.forall_mem_cons.mpr ⟨⟨_, _, dJ4_append_3_11, amSite.P (amSiteU (C := RJ5) (metJ4_isLatin1 l G) rfl (by decide) (by decide) q680 q682 (Or.inl q683) q681 q100 q684 ⟨_, rfl, rfl⟩ ⟨by decide +kernel, by decide +kernel, by decide +kernel⟩)⟩, ?_⟩
  refine List.forall_mem_cons.mpr ⟨⟨_, _, dJ4_append_3_18, amSite.P (amSiteS (metJ13_canEncode l G) rfl (by decide) (by decide) (lw_S q1035 q1036 q109 q1037) ⟨by decide +kernel, by decide +kernel, by decide +kernel⟩)⟩, ?_⟩
  refine List.forall_mem_cons.mpr ⟨⟨_, _, dJ4_append_3_25, amSite.P (amSiteGet ⟨_, rfl, by decide, Or.inl q623⟩)⟩, ?_⟩
  refine List.forall_mem_cons.mpr ⟨⟨_, _, dJ4_append_3_30, amSite.P (amSiteGet ⟨_, rfl, by decide, Or.inl q626⟩)⟩, ?_⟩
  refine List.forall_mem_cons.mpr ⟨⟨_, _, dJ4_append_3_36, amSite.P (amSitePut ⟨_, rfl, by decide, Or.inl q626⟩ (fun q h => by cases h; rfl))⟩, ?_⟩
  exact fun _ h => absurd h List.not_mem_nil)
theorem goJ4_append_3 {ret F} (hF : amCld cJ4_append_3 kJ4_append_3 (amLk rJ4_append_3) (some (FieldType.object "java/lang/AbstractStringBuilder")) 1 302 ret F) (n : Nat) {pc ls st h k z} (q : sJ4_append_3 ret F n pc ls st h k z) : F pc ls st h k z := hF.1 n pc ls st h k z q
theorem metJ4_append_3 (l : Launch) (G : amG) : amMet l G yJ4_append_3 (ws_ yJ4_append_3 cJ4_append_3 2 (some (FieldType.object "java/lang/AbstractStringBuilder"))) 4 1 302 tJ4_append_3 := by
  refine amMet_of (cut := kJ4_append_3) (by decide +kernel) (evJ4_append_3 l G) ?_
  intro as h K hT
  match as, hT with
  | [.ref b, .int x], ⟨n0, c, t, ⟨v, cap, n24, nb, nv, bn, vn, hV⟩, e, hc, tu, hK⟩ =>
  refine ⟨Nat.le_of_ble_eq_true rfl, fun F hF => ?_⟩
  show F 0 [.ref b, .int x] [] h 0 0
  obtain ⟨b, rfl⟩ : ∃ i : Nat, i = b := ⟨_, rfl⟩
  subst e
  have b1 := hV.1
  have b4 := hV.2.2.2.1
  refine goJ4_append_3 hF 60 ?_
  simp (disch := omega) only [wJ4_append_3_0, uJ4_append_3_0, wJ4_append_3_1, wJ4_append_3_2, wJ4_append_3_5, wJ4_append_3_6, wJ4_append_3_7, wJ4_append_3_10, uJ4_append_3_10, wJ4_append_3_11, wJ4_append_3_14, wJ4_append_3_17, wJ4_append_3_18, wJ4_append_3_21, wJ4_append_3_24, wJ4_append_3_25, wJ4_append_3_28, wJ4_append_3_29, wJ4_append_3_30, wJ4_append_3_33, wJ4_append_3_34, wJ4_append_3_35, wJ4_append_3_36, wJ4_append_3_39, wJ4_append_3_40, wJ4_append_3_41, wJ4_append_3_42, wJ4_append_3_75, wJ4_append_3_76, amSI_1, amSI_2, amSI_3, amSI_s, amU_at, amIsR_ref, amIsR_null, amIsR_rf, amRf_some, amRf_none, amClr_int, amClr_ref, amClr_null, amClr_long, amClr_ra, amClr_rf, amFit_int, amFit_oref, amFit_aref, amFit_onull, amFit_anull, amOptSome, amOptNone, List.cons_append, List.nil_append, true_and, and_true, true_implies, not_true_eq_false, not_false_eq_true, false_implies, and_self, Nat.add_zero, Nat.zero_add, ne_eq, Prod.mk.injEq, amC01_0, amC01_1, amC01_nb, amNb0, amNb1, amTcpI_d, Nat.reduceLeDiff, Nat.reduceAdd, Nat.reduceSub, Nat.reduceEqDiff, Nat.le_refl, amN0le, amLeI, amLtI, amEqI, amLe0, amGt0, amEq0, amNotPosI, amGe0, amVI, amCl_nI, amAdd, amSub, amMul, b1, b4]
  rw [tJ4_ensureCapacityInternal_d]
  refine ⟨n0, v, cap, t.length + 1, t, n24, nb, nv, bn, vn, hV, rfl, by omega, by omega, fun h1 v1 cap1 hn hf nv1 vn1 hV1 mc => ?_⟩
  have hV1' := hV1
  obtain ⟨c1, c2, c3, c4, c5, c6, c7, c8, c9⟩ := hV1'
  have vb := hV1.ne
  have b24 : (amN0 ≤ b) = True := eq_true (show 24 ≤ b by omega)
  have v24 : (amN0 ≤ v1) = True := eq_true (show 24 ≤ v1 by omega)
  have by1 : (nI c).toInt8.toInt32 = nI c := amByte c hc
  refine goJ4_append_3 hF 60 ?_
  simp (disch := omega) only [wJ4_append_3_0, uJ4_append_3_0, wJ4_append_3_1, wJ4_append_3_2, wJ4_append_3_5, wJ4_append_3_6, wJ4_append_3_7, wJ4_append_3_10, uJ4_append_3_10, wJ4_append_3_11, wJ4_append_3_14, wJ4_append_3_17, wJ4_append_3_18, wJ4_append_3_21, wJ4_append_3_24, wJ4_append_3_25, wJ4_append_3_28, wJ4_append_3_29, wJ4_append_3_30, wJ4_append_3_33, wJ4_append_3_34, wJ4_append_3_35, wJ4_append_3_36, wJ4_append_3_39, wJ4_append_3_40, wJ4_append_3_41, wJ4_append_3_42, wJ4_append_3_75, wJ4_append_3_76, amSI_1, amSI_2, amSI_3, amSI_s, amU_at, amIsR_ref, amIsR_null, amIsR_rf, amRf_some, amRf_none, amClr_int, amClr_ref, amClr_null, amClr_long, amClr_ra, amClr_rf, amFit_int, amFit_oref, amFit_aref, amFit_onull, amFit_anull, amOptSome, amOptNone, List.cons_append, List.nil_append, true_and, and_true, true_implies, not_true_eq_false, not_false_eq_true, false_implies, and_self, Nat.add_zero, Nat.zero_add, ne_eq, Prod.mk.injEq, amC01_0, amC01_1, amC01_nb, amNb0, amNb1, amTcpI_d, Nat.reduceLeDiff, Nat.reduceAdd, Nat.reduceSub, Nat.reduceEqDiff, Nat.le_refl, amN0le, amLeI, amLtI, amEqI, amLe0, amGt0, amEq0, amNotPosI, amGe0, amVI, amCl_nI, amAdd, amSub, amMul, c1, c2, c3, tJ4_isLatin1_d]
  rw [tJ13_canEncode_d]
  refine ⟨c, rfl, hc, ?_⟩
  have fin := sbDone (h0 := h) (h1 := h1) (u := [c]) (m := amU (amU h1.2.1 b 3 (nI (t.length + 1))) v1 t.length (nI c)) n24 nb nv1 (by omega) vn1 hn (fun i hi => hf i (by omega) (by omega)) hV1 mc (fun d hd => by rw [List.mem_singleton.mp hd]; exact hc) (fun i a1 a2 => by
    rw [amU_neR a2, amU_neR a1]) (by
    rw [amU_ne (Ne.symm vb), amU_nj (by decide)]) (by rw [amU_ne (Ne.symm vb), amU_at]; rfl) (fun j hj => by
    rw [amU_nj (by omega), amU_ne vb]) (fun j hj => by
    have hj : j < 1 := hj
    obtain rfl : j = 0 := by omega
    exact amU_at _ _ _ _)
  have key := hK _ fin.1 fin.2
  simp (disch := omega) only [wJ4_append_3_0, uJ4_append_3_0, wJ4_append_3_1, wJ4_append_3_2, wJ4_append_3_5, wJ4_append_3_6, wJ4_append_3_7, wJ4_append_3_10, uJ4_append_3_10, wJ4_append_3_11, wJ4_append_3_14, wJ4_append_3_17, wJ4_append_3_18, wJ4_append_3_21, wJ4_append_3_24, wJ4_append_3_25, wJ4_append_3_28, wJ4_append_3_29, wJ4_append_3_30, wJ4_append_3_33, wJ4_append_3_34, wJ4_append_3_35, wJ4_append_3_36, wJ4_append_3_39, wJ4_append_3_40, wJ4_append_3_41, wJ4_append_3_42, wJ4_append_3_75, wJ4_append_3_76, amSI_1, amSI_2, amSI_3, amSI_s, amU_at, amIsR_ref, amIsR_null, amIsR_rf, amRf_some, amRf_none, amClr_int, amClr_ref, amClr_null, amClr_long, amClr_ra, amClr_rf, amFit_int, amFit_oref, amFit_aref, amFit_onull, amFit_anull, amOptSome, amOptNone, List.cons_append, List.nil_append, true_and, and_true, true_implies, not_true_eq_false, not_false_eq_true, false_implies, and_self, Nat.add_zero, Nat.zero_add, ne_eq, Prod.mk.injEq, amC01_0, amC01_1, amC01_nb, amNb0, amNb1, amTcpI_d, Nat.reduceLeDiff, Nat.reduceAdd, Nat.reduceSub, Nat.reduceEqDiff, Nat.le_refl, amN0le, amLeI, amLtI, amEqI, amLe0, amGt0, amEq0, amNotPosI, amGe0, amVI, amCl_nI, amAdd, amSub, amMul, c1, c2, c4, c5, b24, v24, by1, amByteN]
  exact amRet.of (by decide) (by decide) key
theorem tJ4_append_3_d {b : Nat} {x : Int32} {h : amH} {K : Option Value → amH → Prop} : tJ4_append_3 [.ref b, .int x] h K = ∃ (n0 c : Nat) (t : List Nat), SbAt h n0 b t ∧ x = nI c ∧ c < 128 ∧ t.length + 1 ≤ 150 ∧ ∀ h', gFr h h' n0 → SbAt h' n0 b (t ++ [c]) → K (some (.ref b)) h' := rfl
def tJ5_append_3 : amT := fun as h K => match as with
  | [.ref b, .int x] => ∃ (n0 c : Nat) (t : List Nat), SbAt h n0 b t ∧ x = nI c ∧ c < 128 ∧ t.length + 1 ≤ 150 ∧ ∀ h', gFr h h' n0 → SbAt h' n0 b (t ++ [c]) → K (some (.ref b)) h'
  | _ => False
/-! java/lang/StringBuilder.append(C)Ljava/lang/StringBuilder; -/
def kJ5_append_3 : Nat → Bool := fun pc => pc == 5
def rJ5_append_3 : List (Nat × amS) := [(2, 2, 1, 302, (amRecv 8 tJ4_append_3))]
def eJ5_append_3 (ret : Option Value → amH → Nat → Nat → Prop) (F : amX) : Nat → amX := amWp cJ5_append_3 kJ5_append_3 (amLk rJ5_append_3) (some (FieldType.object "java/lang/StringBuilder")) 1 302 ret F
def sJ5_append_3 (ret : Option Value → amH → Nat → Nat → Prop) (F : amX) : Nat → amX := amWs cJ5_append_3 kJ5_append_3 (amLk rJ5_append_3) (some (FieldType.object "java/lang/StringBuilder")) 1 302 ret F
theorem wJ5_append_3_0 {ret F n h k z} {v0 v1 st} : eJ5_append_3 ret F (n + 1) 0 [v0, v1] (st) h k z = (amIsR v0 ∧ eJ5_append_3 ret F n 1 [v0, v1] (v0 :: st) h k z) := (amWp_dec rfl dJ5_append_3_0 rfl).trans rfl
theorem uJ5_append_3_0 {ret F n h k z} {v0 v1 st} : sJ5_append_3 ret F n 0 [v0, v1] (st) h k z = (amIsR v0 ∧ eJ5_append_3 ret F n 1 [v0, v1] (v0 :: st) h k z) := (amWs_dec dJ5_append_3_0 rfl).trans rfl
theorem wJ5_append_3_1 {ret F n h k z} {v0 st x} : eJ5_append_3 ret F (n + 1) 1 [v0, .int x] (st) h k z = (eJ5_append_3 ret F n 2 [v0, .int x] (.int x :: st) h k z) := (amWp_dec rfl dJ5_append_3_1 rfl).trans rfl
theorem wJ5_append_3_2 {ret F n h k z} {v0 v1 x1 x0} : eJ5_append_3 ret F (n + 1) 2 [v0, v1] (.int x1 :: .ref x0 :: []) h k z = (k + 1 ≤ 1 ∧ z + 302 ≤ 302 ∧ h.1 x0 = (0, 8) ∧ tJ4_append_3 [.ref x0, .int x1] h (fun v h => eJ5_append_3 ret F n 5 [v0, v1] (v.toList ++ ([])) h (k + 1) (z + 302))) := (amWp_dec rfl dJ5_append_3_2 rfl).trans (amS2 (Nat.le_of_ble_eq_true rfl) (Nat.le_of_ble_eq_true rfl))
theorem wJ5_append_3_5 {ret F n ls st h k z} : eJ5_append_3 ret F (n + 1) 5 ls st h k z = F 5 ls st h k z := amWp_cut rfl
theorem uJ5_append_3_5 {ret F n h k z} {v0 v1 st b} : sJ5_append_3 ret F n 5 [v0, v1] (.ref b :: st) h k z = (eJ5_append_3 ret F n 6 [v0, v1] (st) h k z) := (amWs_dec dJ5_append_3_5 rfl).trans (amTrue rfl)
theorem wJ5_append_3_6 {ret F n h k z} {v0 v1 st} : eJ5_append_3 ret F (n + 1) 6 [v0, v1] (st) h k z = (amIsR v0 ∧ eJ5_append_3 ret F n 7 [v0, v1] (v0 :: st) h k z) := (amWp_dec rfl dJ5_append_3_6 rfl).trans rfl
theorem wJ5_append_3_7 {ret F n h k z} {v0 v1 w} : eJ5_append_3 ret F (n + 1) 7 [v0, v1] ([w]) h k z = (amIsR w ∧ ret (some w) h k z) := (amWp_dec rfl dJ5_append_3_7 rfl).trans (amTrue ⟨_, rfl, rfl⟩)
theorem evJ5_append_3 (l : Launch) (G : amG) : ∀ pc S i sz, amLk rJ5_append_3 pc = some S → decode cJ5_append_3 pc = .ok (i, sz) → amSiteP pc G l yJ5_append_3.cls yJ5_append_3.name yJ5_append_3.desc (amRm 5 1 302) i sz S.1 S.2.1 S.2.2.1 S.2.2.2 := amLk_ok (by
  refine List.forall_mem_cons.mpr ⟨⟨_, _, dJ5_append_3_2, amSite.P (amSiteSU (C := RJ5) (metJ4_append_3 l G) rfl (by decide) (by decide) q1032 q1727 q635 q1033 q100 q1034 ⟨_, rfl, rfl⟩ ⟨by decide +kernel, by decide +kernel⟩)⟩, ?_⟩
  exact fun _ h => absurd h List.not_mem_nil)
theorem goJ5_append_3 {ret F} (hF : amCld cJ5_append_3 kJ5_append_3 (amLk rJ5_append_3) (some (FieldType.object "java/lang/StringBuilder")) 1 302 ret F) (n : Nat) {pc ls st h k z} (q : sJ5_append_3 ret F n pc ls st h k z) : F pc ls st h k z := hF.1 n pc ls st h k z q
theorem metJ5_append_3 (l : Launch) (G : amG) : amMet l G yJ5_append_3 (ws_ yJ5_append_3 cJ5_append_3 2 (some (FieldType.object "java/lang/StringBuilder"))) 5 1 302 tJ5_append_3 := by
  refine amMet_of (cut := kJ5_append_3) (by decide +kernel) (evJ5_append_3 l G) ?_
  intro as h K hT
  match as, hT with
  | [.ref b, .int x], ⟨n0, c, t, hB, e, hc, tu, hK⟩ =>
  refine ⟨Nat.le_of_ble_eq_true rfl, fun F hF => ?_⟩
  show F 0 [.ref b, .int x] [] h 0 0
  obtain ⟨b, rfl⟩ : ∃ i : Nat, i = b := ⟨_, rfl⟩
  have b1 := hB.cl
  refine goJ5_append_3 hF 60 ?_
  simp (disch := omega) only [wJ5_append_3_0, uJ5_append_3_0, wJ5_append_3_1, wJ5_append_3_2, wJ5_append_3_5, uJ5_append_3_5, wJ5_append_3_6, wJ5_append_3_7, amSI_1, amSI_2, amSI_3, amSI_s, amU_at, amIsR_ref, amIsR_null, amIsR_rf, amRf_some, amRf_none, amClr_int, amClr_ref, amClr_null, amClr_long, amClr_ra, amClr_rf, amFit_int, amFit_oref, amFit_aref, amFit_onull, amFit_anull, amOptSome, amOptNone, List.cons_append, List.nil_append, true_and, and_true, true_implies, not_true_eq_false, not_false_eq_true, false_implies, and_self, Nat.add_zero, Nat.zero_add, ne_eq, Prod.mk.injEq, amC01_0, amC01_1, amC01_nb, amNb0, amNb1, amTcpI_d, Nat.reduceLeDiff, Nat.reduceAdd, Nat.reduceSub, Nat.reduceEqDiff, Nat.le_refl, amN0le, b1]
  rw [tJ4_append_3_d]
  refine ⟨n0, c, t, hB, e, hc, tu, fun h' f1 f2 => ?_⟩
  have key := hK h' f1 f2
  refine goJ5_append_3 hF 60 ?_
  simp (disch := omega) only [wJ5_append_3_0, uJ5_append_3_0, wJ5_append_3_1, wJ5_append_3_2, wJ5_append_3_5, uJ5_append_3_5, wJ5_append_3_6, wJ5_append_3_7, amSI_1, amSI_2, amSI_3, amSI_s, amU_at, amIsR_ref, amIsR_null, amIsR_rf, amRf_some, amRf_none, amClr_int, amClr_ref, amClr_null, amClr_long, amClr_ra, amClr_rf, amFit_int, amFit_oref, amFit_aref, amFit_onull, amFit_anull, amOptSome, amOptNone, List.cons_append, List.nil_append, true_and, and_true, true_implies, not_true_eq_false, not_false_eq_true, false_implies, and_self, Nat.add_zero, Nat.zero_add, ne_eq, Prod.mk.injEq, amC01_0, amC01_1, amC01_nb, amNb0, amNb1, amTcpI_d, Nat.reduceLeDiff, Nat.reduceAdd, Nat.reduceSub, Nat.reduceEqDiff, Nat.le_refl, amN0le, b1]
  exact amRet.of (by decide) (by decide) key
theorem tJ5_append_3_d {b : Nat} {x : Int32} {h : amH} {K : Option Value → amH → Prop} : tJ5_append_3 [.ref b, .int x] h K = ∃ (n0 c : Nat) (t : List Nat), SbAt h n0 b t ∧ x = nI c ∧ c < 128 ∧ t.length + 1 ≤ 150 ∧ ∀ h', gFr h h' n0 → SbAt h' n0 b (t ++ [c]) → K (some (.ref b)) h' := rfl
def tJ4_init : amT := fun as h K => match as with
  | [.ref b, .int x] => h.1 b = (0, 8) ∧ 24 ≤ b ∧ b < h.2.2.2.2 ∧ h.2.1 b 3 = nI 0 ∧ x = nI 16 ∧ ∀ h', gFr h h' b → SbAt h' b b [] → K none h'
  | _ => False
/-! java/lang/AbstractStringBuilder.<init>(I)V -/
def kJ4_init : Nat → Bool := fun pc => false
def rJ4_init : List (Nat × amS) := [(1, 1, 0, 0, amIsRef (fun _ h K => K none h)), (4, 0, 0, 0, amTcon (.int 1)), (14, 2, 0, 0, amTput 8 0), (19, 2, 0, 0, amTput 8 1)]
def eJ4_init (ret : Option Value → amH → Nat → Nat → Prop) (F : amX) : Nat → amX := amWp cJ4_init kJ4_init (amLk rJ4_init) none 1 16 ret F
def sJ4_init (ret : Option Value → amH → Nat → Nat → Prop) (F : amX) : Nat → amX := amWs cJ4_init kJ4_init (amLk rJ4_init) none 1 16 ret F
theorem wJ4_init_0 {ret F n h k z} {v0 v1 st} : eJ4_init ret F (n + 1) 0 [v0, v1] (st) h k z = (amIsR v0 ∧ eJ4_init ret F n 1 [v0, v1] (v0 :: st) h k z) := (amWp_dec rfl dJ4_init_0 rfl).trans rfl
theorem uJ4_init_0 {ret F n h k z} {v0 v1 st} : sJ4_init ret F n 0 [v0, v1] (st) h k z = (amIsR v0 ∧ eJ4_init ret F n 1 [v0, v1] (v0 :: st) h k z) := (amWs_dec dJ4_init_0 rfl).trans rfl
theorem wJ4_init_1 {ret F n h k z} {v0 v1 x0} : eJ4_init ret F (n + 1) 1 [v0, v1] (.ref x0 :: []) h k z = (k + 0 ≤ 1 ∧ z + 0 ≤ 16 ∧ eJ4_init ret F n 4 [v0, v1] ([]) h (k + 0) (z + 0)) := (amWp_dec rfl dJ4_init_1 rfl).trans (amS2 (Nat.le_of_ble_eq_true rfl) (Nat.le_of_ble_eq_true rfl))
theorem wJ4_init_4 {ret F n h k z} {v0 v1} : eJ4_init ret F (n + 1) 4 [v0, v1] ([]) h k z = (k + 0 ≤ 1 ∧ z + 0 ≤ 16 ∧ eJ4_init ret F n 7 [v0, v1] (.int (nI 1) :: []) h (k + 0) (z + 0)) := (amWp_dec rfl dJ4_init_4 rfl).trans (amS2 (Nat.le_of_ble_eq_true rfl) (Nat.le_of_ble_eq_true rfl))
theorem wJ4_init_7 {ret F n h k z} {v0 v1 st x} : eJ4_init ret F (n + 1) 7 [v0, v1] (.int x :: st) h k z = ((x = 0 → eJ4_init ret F n 25 [v0, v1] (st) h k z) ∧ (¬ x = 0 → eJ4_init ret F n 10 [v0, v1] (st) h k z)) := (amWp_dec rfl dJ4_init_7 rfl).trans rfl
theorem wJ4_init_10 {ret F n h k z} {v0 v1 st} : eJ4_init ret F (n + 1) 10 [v0, v1] (st) h k z = (amIsR v0 ∧ eJ4_init ret F n 11 [v0, v1] (v0 :: st) h k z) := (amWp_dec rfl dJ4_init_10 rfl).trans rfl
theorem wJ4_init_11 {ret F n h k z} {v0 st x} : eJ4_init ret F (n + 1) 11 [v0, .int x] (st) h k z = (eJ4_init ret F n 12 [v0, .int x] (.int x :: st) h k z) := (amWp_dec rfl dJ4_init_11 rfl).trans rfl
theorem wJ4_init_12 {ret F n h k z} {v0 v1 st x} : eJ4_init ret F (n + 1) 12 [v0, v1] (.int x :: st) h k z = (¬ x < 0 ∧ x.toNatClampNeg ≤ 67108864 ∧ k + 1 ≤ 1 ∧ z + x.toNatClampNeg ≤ 16 ∧ eJ4_init ret F n 14 [v0, v1] (.ref h.2.2.2.2 :: st) (amNew h (2, x.toNatClampNeg)) (k + 1) (z + x.toNatClampNeg)) := (amWp_dec rfl dJ4_init_12 rfl).trans (amTrue (Nat.le_of_ble_eq_true rfl))
theorem wJ4_init_14 {ret F n h k z} {v0 v1 w a} : eJ4_init ret F (n + 1) 14 [v0, v1] (w :: .ref a :: []) h k z = (k + 0 ≤ 1 ∧ z + 0 ≤ 16 ∧ h.1 a = (0, 8) ∧ amN0 ≤ a ∧ amFit (.array .byte) w ∧ eJ4_init ret F n 17 [v0, v1] ([]) (amWr h a 0 w) (k + 0) (z + 0)) := (amWp_dec rfl dJ4_init_14 rfl).trans (amS2 (Nat.le_of_ble_eq_true rfl) (Nat.le_of_ble_eq_true rfl))
theorem wJ4_init_17 {ret F n h k z} {v0 v1 st} : eJ4_init ret F (n + 1) 17 [v0, v1] (st) h k z = (amIsR v0 ∧ eJ4_init ret F n 18 [v0, v1] (v0 :: st) h k z) := (amWp_dec rfl dJ4_init_17 rfl).trans rfl
theorem wJ4_init_18 {ret F n h k z} {v0 v1 st} : eJ4_init ret F (n + 1) 18 [v0, v1] (st) h k z = (eJ4_init ret F n 19 [v0, v1] (.int (nI 0) :: st) h k z) := (amWp_dec rfl dJ4_init_18 rfl).trans rfl
theorem wJ4_init_19 {ret F n h k z} {v0 v1 x a} : eJ4_init ret F (n + 1) 19 [v0, v1] (.int x :: .ref a :: []) h k z = (k + 0 ≤ 1 ∧ z + 0 ≤ 16 ∧ h.1 a = (0, 8) ∧ amN0 ≤ a ∧ amFit .byte (.int x) ∧ eJ4_init ret F n 22 [v0, v1] ([]) (amSI h (amU h.2.1 a 1 x)) (k + 0) (z + 0)) := (amWp_dec rfl dJ4_init_19 rfl).trans (amS2 (Nat.le_of_ble_eq_true rfl) (Nat.le_of_ble_eq_true rfl))
theorem wJ4_init_22 {ret F n h k z} {v0 v1 st} : eJ4_init ret F (n + 1) 22 [v0, v1] (st) h k z = (eJ4_init ret F n 38 [v0, v1] (st) h k z) := (amWp_dec rfl dJ4_init_22 rfl).trans rfl
theorem wJ4_init_38 {ret F n h k z} {v0 v1} : eJ4_init ret F (n + 1) 38 [v0, v1] ([]) h k z = (ret none h k z) := (amWp_dec rfl dJ4_init_38 rfl).trans (amTrue rfl)
theorem evJ4_init (l : Launch) (G : amG) : ∀ pc S i sz, amLk rJ4_init pc = some S → decode cJ4_init pc = .ok (i, sz) → amSiteP pc G l yJ4_init.cls yJ4_init.name yJ4_init.desc (amRm 1 1 16) i sz S.1 S.2.1 S.2.2.1 S.2.2.2 := amLk_ok (by
  refine List.forall_mem_cons.mpr ⟨⟨_, _, dJ4_init_1, amSite.P (amSiteO rfl (by decide) q590 q121 q122)⟩, ?_⟩
  refine List.forall_mem_cons.mpr ⟨⟨_, _, dJ4_init_4, amSite.P (amSiteGs (List.mem_of_getElem? (i := 0) rfl) q591)⟩, ?_⟩
  refine List.forall_mem_cons.mpr ⟨⟨_, _, dJ4_init_14, amSite.P (amSitePut ⟨_, rfl, by decide, Or.inl q623⟩ (fun q h => by cases h; rfl))⟩, ?_⟩
  refine List.forall_mem_cons.mpr ⟨⟨_, _, dJ4_init_19, amSite.P (amSitePut ⟨_, rfl, by decide, Or.inl q624⟩ (fun q h => by cases h; rfl))⟩, ?_⟩
  exact fun _ h => absurd h List.not_mem_nil)
theorem goJ4_init {ret F} (hF : amCld cJ4_init kJ4_init (amLk rJ4_init) none 1 16 ret F) (n : Nat) {pc ls st h k z} (q : sJ4_init ret F n pc ls st h k z) : F pc ls st h k z := hF.1 n pc ls st h k z q
theorem metJ4_init (l : Launch) (G : amG) : amMet l G yJ4_init (ws_ yJ4_init cJ4_init 2 none) 1 1 16 tJ4_init := by
  refine amMet_of (cut := kJ4_init) (by decide +kernel) (evJ4_init l G) ?_
  intro as h K hT
  match as, hT with
  | [.ref b, .int x], ⟨h1, b24, bn, h3, e, hK⟩ =>
  refine ⟨Nat.le_of_ble_eq_true rfl, fun F hF => ?_⟩
  show F 0 [.ref b, .int x] [] h 0 0
  obtain ⟨b, rfl⟩ : ∃ i : Nat, i = b := ⟨_, rfl⟩
  subst e
  have b24 : (24 : Nat) ≤ b := b24
  have bn : (b : Nat) < h.2.2.2.2 := bn
  have b24' : (amN0 ≤ b) = True := eq_true (show 24 ≤ b from b24)
  have sb : (amNew h (2, 16)).1 b = (0, 8) := by rw [amNew_1 bn]; exact h1
  have sn : (amNew h (2, 16)).1 h.2.2.2.2 = (2, 16) := amNew_sh h _
  have mb : (amNew h (2, 16)).2.1 b = h.2.1 b := (amNew_same bn).2.1
  have n16 : (16 ≤ 67108864) = True := eq_true (by decide)
  have key := hK (amSI (amWr (amNew h (2, 16)) b 0 (.ref h.2.2.2.2)) (amU (amNew h (2, 16)).2.1 b 1 (nI 0))) ⟨Nat.le_succ _, fun i hi => ((amNew_same (h := h) (s := (2, 16)) (i := i) (by omega)).tr (amWr_same (a := b) (by omega))).tr ⟨rfl, by
    show amU (amNew h (2, 16)).2.1 b 1 (nI 0) i = _
    rw [amU_neR (by omega)]
    rfl, rfl, rfl⟩⟩ ⟨h.2.2.2.2, 16, b24, Nat.le_refl _, by omega, Nat.lt_succ_of_lt bn, Nat.lt_succ_self _, sb, by simp [amSI, amWr, va_up], amU_at _ _ _ _, by
    show amU (amNew h (2, 16)).2.1 b 1 (nI 0) b 3 = _
    rw [amU_nj (by decide), mb]
    exact h3, sn, Nat.zero_le _, by decide, fun i hi => absurd hi (Nat.not_lt_zero i), fun c hc => absurd hc List.not_mem_nil⟩
  refine goJ4_init hF 60 ?_
  simp (disch := omega) only [wJ4_init_0, uJ4_init_0, wJ4_init_1, wJ4_init_4, wJ4_init_7, wJ4_init_10, wJ4_init_11, wJ4_init_12, wJ4_init_14, wJ4_init_17, wJ4_init_18, wJ4_init_19, wJ4_init_22, wJ4_init_38, amSI_1, amSI_2, amSI_3, amSI_s, amU_at, amIsR_ref, amIsR_null, amIsR_rf, amRf_some, amRf_none, amClr_int, amClr_ref, amClr_null, amClr_long, amClr_ra, amClr_rf, amFit_int, amFit_oref, amFit_aref, amFit_onull, amFit_anull, amOptSome, amOptNone, List.cons_append, List.nil_append, true_and, and_true, true_implies, not_true_eq_false, not_false_eq_true, false_implies, and_self, Nat.add_zero, Nat.zero_add, ne_eq, Prod.mk.injEq, amC01_0, amC01_1, amC01_nb, amNb0, amNb1, amTcpI_d, Nat.reduceLeDiff, Nat.reduceAdd, Nat.reduceSub, Nat.reduceEqDiff, Nat.le_refl, amN0le, amLeI, amLtI, amEqI, amLe0, amGt0, amEq0, amNotPosI, amGe0, amVI, amCl_nI, amAdd, amSub, amMul, h1, n16, sb, b24', amWrR1, amWrR2, amFitB0]
  exact amRet.of (by decide) (by decide) key
theorem tJ4_init_d {b : Nat} {x : Int32} {h : amH} {K : Option Value → amH → Prop} : tJ4_init [.ref b, .int x] h K = (h.1 b = (0, 8) ∧ 24 ≤ b ∧ b < h.2.2.2.2 ∧ h.2.1 b 3 = nI 0 ∧ x = nI 16 ∧ ∀ h', gFr h h' b → SbAt h' b b [] → K none h') := rfl
def tJ5_init : amT := fun as h K => match as with
  | [.ref b] => h.1 b = (0, 8) ∧ 24 ≤ b ∧ b < h.2.2.2.2 ∧ h.2.1 b 3 = nI 0 ∧ ∀ h', gFr h h' b → SbAt h' b b [] → K none h'
  | _ => False
/-! java/lang/StringBuilder.<init>()V -/
def kJ5_init : Nat → Bool := fun pc => pc == 6
def rJ5_init : List (Nat × amS) := [(3, 2, 1, 16, (amIsRef tJ4_init))]
def eJ5_init (ret : Option Value → amH → Nat → Nat → Prop) (F : amX) : Nat → amX := amWp cJ5_init kJ5_init (amLk rJ5_init) none 1 16 ret F
def sJ5_init (ret : Option Value → amH → Nat → Nat → Prop) (F : amX) : Nat → amX := amWs cJ5_init kJ5_init (amLk rJ5_init) none 1 16 ret F
theorem wJ5_init_0 {ret F n h k z} {v0 st} : eJ5_init ret F (n + 1) 0 [v0] (st) h k z = (amIsR v0 ∧ eJ5_init ret F n 1 [v0] (v0 :: st) h k z) := (amWp_dec rfl dJ5_init_0 rfl).trans rfl
theorem uJ5_init_0 {ret F n h k z} {v0 st} : sJ5_init ret F n 0 [v0] (st) h k z = (amIsR v0 ∧ eJ5_init ret F n 1 [v0] (v0 :: st) h k z) := (amWs_dec dJ5_init_0 rfl).trans rfl
theorem wJ5_init_1 {ret F n h k z} {v0 st} : eJ5_init ret F (n + 1) 1 [v0] (st) h k z = (eJ5_init ret F n 3 [v0] (.int (nI 16) :: st) h k z) := (amWp_dec rfl dJ5_init_1 rfl).trans rfl
theorem wJ5_init_3 {ret F n h k z} {v0 x1 x0} : eJ5_init ret F (n + 1) 3 [v0] (.int x1 :: .ref x0 :: []) h k z = (k + 1 ≤ 1 ∧ z + 16 ≤ 16 ∧ tJ4_init [.ref x0, .int x1] h (fun v h => eJ5_init ret F n 6 [v0] (v.toList ++ ([])) h (k + 1) (z + 16))) := (amWp_dec rfl dJ5_init_3 rfl).trans (amS2 (Nat.le_of_ble_eq_true rfl) (Nat.le_of_ble_eq_true rfl))
theorem wJ5_init_6 {ret F n ls st h k z} : eJ5_init ret F (n + 1) 6 ls st h k z = F 6 ls st h k z := amWp_cut rfl
theorem uJ5_init_6 {ret F n h k z} {v0} : sJ5_init ret F n 6 [v0] ([]) h k z = (ret none h k z) := (amWs_dec dJ5_init_6 rfl).trans (amTrue rfl)
theorem evJ5_init (l : Launch) (G : amG) : ∀ pc S i sz, amLk rJ5_init pc = some S → decode cJ5_init pc = .ok (i, sz) → amSiteP pc G l yJ5_init.cls yJ5_init.name yJ5_init.desc (amRm 2 1 16) i sz S.1 S.2.1 S.2.2.1 S.2.2.2 := amLk_ok (by
  refine List.forall_mem_cons.mpr ⟨⟨_, _, dJ5_init_3, amSite.P (amSiteI (metJ4_init l G) rfl (by decide) (by decide) q589 q100 q587 q588 ⟨rfl, by decide +kernel, by decide +kernel, by decide +kernel⟩)⟩, ?_⟩
  exact fun _ h => absurd h List.not_mem_nil)
theorem goJ5_init {ret F} (hF : amCld cJ5_init kJ5_init (amLk rJ5_init) none 1 16 ret F) (n : Nat) {pc ls st h k z} (q : sJ5_init ret F n pc ls st h k z) : F pc ls st h k z := hF.1 n pc ls st h k z q
theorem metJ5_init (l : Launch) (G : amG) : amMet l G yJ5_init (ws_ yJ5_init cJ5_init 1 none) 2 1 16 tJ5_init := by
  refine amMet_of (cut := kJ5_init) (by decide +kernel) (evJ5_init l G) ?_
  intro as h K hT
  match as, hT with
  | [.ref b], ⟨h1, b24, bn, h3, hK⟩ =>
  refine ⟨Nat.le_of_ble_eq_true rfl, fun F hF => ?_⟩
  show F 0 [.ref b] [] h 0 0
  obtain ⟨b, rfl⟩ : ∃ i : Nat, i = b := ⟨_, rfl⟩
  refine goJ5_init hF 60 ?_
  simp (disch := omega) only [wJ5_init_0, uJ5_init_0, wJ5_init_1, wJ5_init_3, wJ5_init_6, uJ5_init_6, amSI_1, amSI_2, amSI_3, amSI_s, amU_at, amIsR_ref, amIsR_null, amIsR_rf, amRf_some, amRf_none, amClr_int, amClr_ref, amClr_null, amClr_long, amClr_ra, amClr_rf, amFit_int, amFit_oref, amFit_aref, amFit_onull, amFit_anull, amOptSome, amOptNone, List.cons_append, List.nil_append, true_and, and_true, true_implies, not_true_eq_false, not_false_eq_true, false_implies, and_self, Nat.add_zero, Nat.zero_add, ne_eq, Prod.mk.injEq, amC01_0, amC01_1, amC01_nb, amNb0, amNb1, amTcpI_d, Nat.reduceLeDiff, Nat.reduceAdd, Nat.reduceSub, Nat.reduceEqDiff, Nat.le_refl, amN0le, amLeI, amLtI, amEqI, amLe0, amGt0, amEq0, amNotPosI, amGe0, amVI, amCl_nI, amAdd, amSub, amMul]
  rw [tJ4_init_d]
  refine ⟨h1, b24, bn, h3, rfl, fun h' f1 f2 => ?_⟩
  have key := hK h' f1 f2
  refine goJ5_init hF 60 ?_
  simp (disch := omega) only [wJ5_init_0, uJ5_init_0, wJ5_init_1, wJ5_init_3, wJ5_init_6, uJ5_init_6, amSI_1, amSI_2, amSI_3, amSI_s, amU_at, amIsR_ref, amIsR_null, amIsR_rf, amRf_some, amRf_none, amClr_int, amClr_ref, amClr_null, amClr_long, amClr_ra, amClr_rf, amFit_int, amFit_oref, amFit_aref, amFit_onull, amFit_anull, amOptSome, amOptNone, List.cons_append, List.nil_append, true_and, and_true, true_implies, not_true_eq_false, not_false_eq_true, false_implies, and_self, Nat.add_zero, Nat.zero_add, ne_eq, Prod.mk.injEq, amC01_0, amC01_1, amC01_nb, amNb0, amNb1, amTcpI_d, Nat.reduceLeDiff, Nat.reduceAdd, Nat.reduceSub, Nat.reduceEqDiff, Nat.le_refl, amN0le, amLeI, amLtI, amEqI, amLe0, amGt0, amEq0, amNotPosI, amGe0, amVI, amCl_nI, amAdd, amSub, amMul]
  exact amRet.of (by decide) (by decide) key
theorem tJ5_init_d {b : Nat} {h : amH} {K : Option Value → amH → Prop} : tJ5_init [.ref b] h K = (h.1 b = (0, 8) ∧ 24 ≤ b ∧ b < h.2.2.2.2 ∧ h.2.1 b 3 = nI 0 ∧ ∀ h', gFr h h' b → SbAt h' b b [] → K none h') := rfl
