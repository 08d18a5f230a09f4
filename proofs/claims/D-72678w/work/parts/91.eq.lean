/-! the JDK's strings: equality; a tape's letters -/
set_option maxRecDepth 100000
theorem getD_ext {t u : List Nat} (hl : t.length = u.length) (h : ∀ i, i < t.length → t.getD i 0 = u.getD i 0) : t = u := by
  apply List.ext_getElem hl
  intro i h1 h2
  have := h i h1
  rw [List.getD_eq_getElem?_getD, List.getD_eq_getElem?_getD, List.getElem?_eq_getElem h1, List.getElem?_eq_getElem h2] at this
  exact this
def tJ13_equals : amT := fun as h K => match as with
  | [.ref a, .ref b] => ∃ t u : List Nat, ByIs h a t ∧ ByIs h b u ∧ K (some (.int (amC01 (decide (t = u))))) h
  | _ => False
/-! java/lang/StringLatin1.equals([B[B)Z -/
def kJ13_equals : Nat → Bool := fun pc => pc == 9
def rJ13_equals : List (Nat × amS) := []
def eJ13_equals (ret : Option Value → amH → Nat → Nat → Prop) (F : amX) : Nat → amX := amWp cJ13_equals kJ13_equals (amLk rJ13_equals) (some .boolean) 0 0 ret F
def sJ13_equals (ret : Option Value → amH → Nat → Nat → Prop) (F : amX) : Nat → amX := amWs cJ13_equals kJ13_equals (amLk rJ13_equals) (some .boolean) 0 0 ret F
theorem wJ13_equals_0 {ret F n h} {v0 v1 v2 st} : eJ13_equals ret F (n + 1) 0 [v0, v1, v2] (st) h 0 0 = (amIsR v0 ∧ eJ13_equals ret F n 1 [v0, v1, v2] (v0 :: st) h 0 0) := (amWp_dec rfl dJ13_equals_0 rfl).trans rfl
theorem uJ13_equals_0 {ret F n h} {v0 v1 v2 st} : sJ13_equals ret F n 0 [v0, v1, v2] (st) h 0 0 = (amIsR v0 ∧ eJ13_equals ret F n 1 [v0, v1, v2] (v0 :: st) h 0 0) := (amWs_dec dJ13_equals_0 rfl).trans rfl
theorem wJ13_equals_1 {ret F n h} {v0 v1 v2 st a} : eJ13_equals ret F (n + 1) 1 [v0, v1, v2] (.ref a :: st) h 0 0 = (1 ≤ (h.1 a).1 ∧ (h.1 a).1 ≤ 8 ∧ eJ13_equals ret F n 2 [v0, v1, v2] (.int (nI (h.1 a).2) :: st) h 0 0) := (amWp_dec rfl dJ13_equals_1 rfl).trans rfl
theorem wJ13_equals_2 {ret F n h} {v0 v1 v2 st} : eJ13_equals ret F (n + 1) 2 [v0, v1, v2] (st) h 0 0 = (amIsR v1 ∧ eJ13_equals ret F n 3 [v0, v1, v2] (v1 :: st) h 0 0) := (amWp_dec rfl dJ13_equals_2 rfl).trans rfl
theorem wJ13_equals_3 {ret F n h} {v0 v1 v2 st a} : eJ13_equals ret F (n + 1) 3 [v0, v1, v2] (.ref a :: st) h 0 0 = (1 ≤ (h.1 a).1 ∧ (h.1 a).1 ≤ 8 ∧ eJ13_equals ret F n 4 [v0, v1, v2] (.int (nI (h.1 a).2) :: st) h 0 0) := (amWp_dec rfl dJ13_equals_3 rfl).trans rfl
theorem wJ13_equals_4 {ret F n h} {v0 v1 v2 st y x} : eJ13_equals ret F (n + 1) 4 [v0, v1, v2] (.int y :: .int x :: st) h 0 0 = ((¬ x = y → eJ13_equals ret F n 34 [v0, v1, v2] (st) h 0 0) ∧ (x = y → eJ13_equals ret F n 7 [v0, v1, v2] (st) h 0 0)) := (amWp_dec rfl dJ13_equals_4 rfl).trans rfl
theorem wJ13_equals_7 {ret F n h} {v0 v1 v2 st} : eJ13_equals ret F (n + 1) 7 [v0, v1, v2] (st) h 0 0 = (eJ13_equals ret F n 8 [v0, v1, v2] (.int (nI 0) :: st) h 0 0) := (amWp_dec rfl dJ13_equals_7 rfl).trans rfl
theorem wJ13_equals_8 {ret F n h} {v0 v1 v2 st x} : eJ13_equals ret F (n + 1) 8 [v0, v1, v2] (.int x :: st) h 0 0 = (eJ13_equals ret F n 9 [v0, amClr v1, .int x] (st) h 0 0) := (amWp_dec rfl dJ13_equals_8 rfl).trans (amTrue (Nat.le_of_ble_eq_true rfl))
theorem wJ13_equals_9 {ret F n ls st h k z} : eJ13_equals ret F (n + 1) 9 ls st h k z = F 9 ls st h k z := amWp_cut rfl
theorem uJ13_equals_9 {ret F n h} {v0 v1 st x} : sJ13_equals ret F n 9 [v0, v1, .int x] (st) h 0 0 = (eJ13_equals ret F n 10 [v0, v1, .int x] (.int x :: st) h 0 0) := (amWs_dec dJ13_equals_9 rfl).trans rfl
theorem wJ13_equals_10 {ret F n h} {v0 v1 v2 st} : eJ13_equals ret F (n + 1) 10 [v0, v1, v2] (st) h 0 0 = (amIsR v0 ∧ eJ13_equals ret F n 11 [v0, v1, v2] (v0 :: st) h 0 0) := (amWp_dec rfl dJ13_equals_10 rfl).trans rfl
theorem wJ13_equals_11 {ret F n h} {v0 v1 v2 st a} : eJ13_equals ret F (n + 1) 11 [v0, v1, v2] (.ref a :: st) h 0 0 = (1 ≤ (h.1 a).1 ∧ (h.1 a).1 ≤ 8 ∧ eJ13_equals ret F n 12 [v0, v1, v2] (.int (nI (h.1 a).2) :: st) h 0 0) := (amWp_dec rfl dJ13_equals_11 rfl).trans rfl
theorem wJ13_equals_12 {ret F n h} {v0 v1 v2 st y x} : eJ13_equals ret F (n + 1) 12 [v0, v1, v2] (.int y :: .int x :: st) h 0 0 = ((y ≤ x → eJ13_equals ret F n 32 [v0, v1, v2] (st) h 0 0) ∧ (¬ y ≤ x → eJ13_equals ret F n 15 [v0, v1, v2] (st) h 0 0)) := (amWp_dec rfl dJ13_equals_12 rfl).trans rfl
theorem wJ13_equals_15 {ret F n h} {v0 v1 v2 st} : eJ13_equals ret F (n + 1) 15 [v0, v1, v2] (st) h 0 0 = (amIsR v0 ∧ eJ13_equals ret F n 16 [v0, v1, v2] (v0 :: st) h 0 0) := (amWp_dec rfl dJ13_equals_15 rfl).trans rfl
theorem wJ13_equals_16 {ret F n h} {v0 v1 st x} : eJ13_equals ret F (n + 1) 16 [v0, v1, .int x] (st) h 0 0 = (eJ13_equals ret F n 17 [v0, v1, .int x] (.int x :: st) h 0 0) := (amWp_dec rfl dJ13_equals_16 rfl).trans rfl
theorem wJ13_equals_17 {ret F n h} {v0 v1 v2 st x a} : eJ13_equals ret F (n + 1) 17 [v0, v1, v2] (.int x :: .ref a :: st) h 0 0 = ((h.1 a).1 = 2 ∧ vp_in x (h.1 a).2 ∧ eJ13_equals ret F n 18 [v0, v1, v2] (.int (h.2.1 a x.toNatClampNeg) :: st) h 0 0) := (amWp_dec rfl dJ13_equals_17 rfl).trans rfl
theorem wJ13_equals_18 {ret F n h} {v0 v1 v2 st} : eJ13_equals ret F (n + 1) 18 [v0, v1, v2] (st) h 0 0 = (amIsR v1 ∧ eJ13_equals ret F n 19 [v0, v1, v2] (v1 :: st) h 0 0) := (amWp_dec rfl dJ13_equals_18 rfl).trans rfl
theorem wJ13_equals_19 {ret F n h} {v0 v1 st x} : eJ13_equals ret F (n + 1) 19 [v0, v1, .int x] (st) h 0 0 = (eJ13_equals ret F n 20 [v0, v1, .int x] (.int x :: st) h 0 0) := (amWp_dec rfl dJ13_equals_19 rfl).trans rfl
theorem wJ13_equals_20 {ret F n h} {v0 v1 v2 st x a} : eJ13_equals ret F (n + 1) 20 [v0, v1, v2] (.int x :: .ref a :: st) h 0 0 = ((h.1 a).1 = 2 ∧ vp_in x (h.1 a).2 ∧ eJ13_equals ret F n 21 [v0, v1, v2] (.int (h.2.1 a x.toNatClampNeg) :: st) h 0 0) := (amWp_dec rfl dJ13_equals_20 rfl).trans rfl
theorem wJ13_equals_21 {ret F n h} {v0 v1 v2 st y x} : eJ13_equals ret F (n + 1) 21 [v0, v1, v2] (.int y :: .int x :: st) h 0 0 = ((x = y → eJ13_equals ret F n 26 [v0, v1, v2] (st) h 0 0) ∧ (¬ x = y → eJ13_equals ret F n 24 [v0, v1, v2] (st) h 0 0)) := (amWp_dec rfl dJ13_equals_21 rfl).trans rfl
theorem wJ13_equals_24 {ret F n h} {v0 v1 v2 st} : eJ13_equals ret F (n + 1) 24 [v0, v1, v2] (st) h 0 0 = (eJ13_equals ret F n 25 [v0, v1, v2] (.int (nI 0) :: st) h 0 0) := (amWp_dec rfl dJ13_equals_24 rfl).trans rfl
theorem wJ13_equals_25 {ret F n h} {v0 v1 v2 x} : eJ13_equals ret F (n + 1) 25 [v0, v1, v2] ([.int x]) h 0 0 = (narrow .boolean (.int x) = .int x ∧ ret (some (.int x)) h 0 0) := (amWp_dec rfl dJ13_equals_25 rfl).trans (amRetTy)
theorem wJ13_equals_26 {ret F n h} {v0 v1 st x} : eJ13_equals ret F (n + 1) 26 [v0, v1, .int x] (st) h 0 0 = (eJ13_equals ret F n 29 [v0, amClr v1, .int (x + nI 1)] (st) h 0 0) := (amWp_dec rfl dJ13_equals_26 rfl).trans rfl
theorem wJ13_equals_29 {ret F n h} {v0 v1 v2 st} : eJ13_equals ret F (n + 1) 29 [v0, v1, v2] (st) h 0 0 = (eJ13_equals ret F n 9 [v0, v1, v2] (st) h 0 0) := (amWp_dec rfl dJ13_equals_29 rfl).trans rfl
theorem wJ13_equals_32 {ret F n h} {v0 v1 v2 st} : eJ13_equals ret F (n + 1) 32 [v0, v1, v2] (st) h 0 0 = (eJ13_equals ret F n 33 [v0, v1, v2] (.int (nI 1) :: st) h 0 0) := (amWp_dec rfl dJ13_equals_32 rfl).trans rfl
theorem wJ13_equals_33 {ret F n h} {v0 v1 v2 x} : eJ13_equals ret F (n + 1) 33 [v0, v1, v2] ([.int x]) h 0 0 = (narrow .boolean (.int x) = .int x ∧ ret (some (.int x)) h 0 0) := (amWp_dec rfl dJ13_equals_33 rfl).trans (amRetTy)
theorem wJ13_equals_34 {ret F n h} {v0 v1 v2 st} : eJ13_equals ret F (n + 1) 34 [v0, v1, v2] (st) h 0 0 = (eJ13_equals ret F n 35 [v0, v1, v2] (.int (nI 0) :: st) h 0 0) := (amWp_dec rfl dJ13_equals_34 rfl).trans rfl
theorem wJ13_equals_35 {ret F n h} {v0 v1 v2 x} : eJ13_equals ret F (n + 1) 35 [v0, v1, v2] ([.int x]) h 0 0 = (narrow .boolean (.int x) = .int x ∧ ret (some (.int x)) h 0 0) := (amWp_dec rfl dJ13_equals_35 rfl).trans (amRetTy)
theorem evJ13_equals (l : Launch) (G : amG) : ∀ pc S i sz, amLk rJ13_equals pc = some S → decode cJ13_equals pc = .ok (i, sz) → amSiteP pc G l yJ13_equals.cls yJ13_equals.name yJ13_equals.desc (amRm 1 0 0) i sz S.1 S.2.1 S.2.2.1 S.2.2.2 := amLk_ok (by
  exact fun _ h => absurd h List.not_mem_nil)
theorem goJ13_equals {ret F} (hF : amCld cJ13_equals kJ13_equals (amLk rJ13_equals) (some .boolean) 0 0 ret F) (n : Nat) {pc ls st h k z} (q : sJ13_equals ret F n pc ls st h k z) : F pc ls st h k z := hF.1 n pc ls st h k z q
theorem metJ13_equals (l : Launch) (G : amG) : amMet l G yJ13_equals (ws_ yJ13_equals cJ13_equals 3 (some .boolean)) 1 0 0 tJ13_equals := by
  refine amMet_of (cut := kJ13_equals) (by decide +kernel) (evJ13_equals l G) ?_
  intro as h K hT
  match as, hT with
  | [.ref a, .ref b], ⟨t, u, ⟨a1, a2, a3, a4⟩, ⟨b1, b2, b3, b4⟩, hK⟩ =>
  refine ⟨Nat.le_of_ble_eq_true rfl, fun F hF => ?_⟩
  show F 0 [.ref a, .ref b, .retAddr 0] [] h 0 0
  obtain ⟨a, rfl⟩ : ∃ i : Nat, i = a := ⟨_, rfl⟩
  obtain ⟨b, rfl⟩ : ∃ i : Nat, i = b := ⟨_, rfl⟩
  by_cases hl : t.length = u.length
  · have hl' : (u.length = t.length) = True := eq_true hl.symm
    have loop : ∀ f p, p + f = t.length → (∀ i, i < p → t.getD i 0 = u.getD i 0) → F 9 [.ref a, .ref b, .int (nI p)] [] h 0 0 := by
      intro f
      induction f with
      | zero =>
        intro p e q
        have e : p = t.length := by omega
        subst e
        have k1 : K (some (.int (nI 1))) h := by
          rw [show decide (t = u) = true from decide_eq_true (getD_ext hl q)] at hK
          exact hK
        refine goJ13_equals hF 40 ?_
        simp (disch := omega) only [wJ13_equals_0, uJ13_equals_0, wJ13_equals_1, wJ13_equals_2, wJ13_equals_3, wJ13_equals_4, wJ13_equals_7, wJ13_equals_8, wJ13_equals_9, uJ13_equals_9, wJ13_equals_10, wJ13_equals_11, wJ13_equals_12, wJ13_equals_15, wJ13_equals_16, wJ13_equals_17, wJ13_equals_18, wJ13_equals_19, wJ13_equals_20, wJ13_equals_21, wJ13_equals_24, wJ13_equals_25, wJ13_equals_26, wJ13_equals_29, wJ13_equals_32, wJ13_equals_33, wJ13_equals_34, wJ13_equals_35, amSI_1, amSI_2, amSI_3, amSI_s, amU_at, amIsR_ref, amIsR_null, amIsR_rf, amRf_some, amRf_none, amClr_int, amClr_ref, amClr_null, amClr_long, amClr_ra, amClr_rf, amFit_int, amFit_oref, amFit_aref, amFit_onull, amFit_anull, amOptSome, amOptNone, List.cons_append, List.nil_append, true_and, and_true, true_implies, not_true_eq_false, not_false_eq_true, false_implies, and_self, Nat.add_zero, Nat.zero_add, ne_eq, Prod.mk.injEq, amC01_0, amC01_1, amC01_nb, amNb0, amNb1, amTcpI_d, Nat.reduceLeDiff, Nat.reduceAdd, Nat.reduceSub, Nat.reduceEqDiff, Nat.le_refl, amN0le, amLeI, amLtI, amEqI, amLe0, amGt0, amEq0, amNotPosI, amGe0, amVI, amCl_nI, amAdd, amSub, amMul, a1]
        exact amRet.of (by decide) (by decide) k1
      | succ f ih =>
        intro p e q
        have hp : p < t.length := by omega
        have c' : (t.length ≤ p) = False := eq_false (by omega)
        have x1 := a2 p hp
        have x2 := b2 p (by omega)
        have pu : p < u.length := by omega
        have l1 := a3 _ (getD_mem hp)
        have l2 := b3 _ (getD_mem pu)
        by_cases eq : t.getD p 0 = u.getD p 0
        · have nx := ih (p + 1) (by omega) (fun i hi => by
            by_cases z : i = p
            · rw [z]; exact eq
            · exact q i (by omega))
          have eq' : (nI (t.getD p 0) = nI (u.getD p 0)) = True := eq_true (by rw [eq])
          refine goJ13_equals hF 40 ?_
          simp (disch := omega) only [wJ13_equals_0, uJ13_equals_0, wJ13_equals_1, wJ13_equals_2, wJ13_equals_3, wJ13_equals_4, wJ13_equals_7, wJ13_equals_8, wJ13_equals_9, uJ13_equals_9, wJ13_equals_10, wJ13_equals_11, wJ13_equals_12, wJ13_equals_15, wJ13_equals_16, wJ13_equals_17, wJ13_equals_18, wJ13_equals_19, wJ13_equals_20, wJ13_equals_21, wJ13_equals_24, wJ13_equals_25, wJ13_equals_26, wJ13_equals_29, wJ13_equals_32, wJ13_equals_33, wJ13_equals_34, wJ13_equals_35, amSI_1, amSI_2, amSI_3, amSI_s, amU_at, amIsR_ref, amIsR_null, amIsR_rf, amRf_some, amRf_none, amClr_int, amClr_ref, amClr_null, amClr_long, amClr_ra, amClr_rf, amFit_int, amFit_oref, amFit_aref, amFit_onull, amFit_anull, amOptSome, amOptNone, List.cons_append, List.nil_append, true_and, and_true, true_implies, not_true_eq_false, not_false_eq_true, false_implies, and_self, Nat.add_zero, Nat.zero_add, ne_eq, Prod.mk.injEq, amC01_0, amC01_1, amC01_nb, amNb0, amNb1, amTcpI_d, Nat.reduceLeDiff, Nat.reduceAdd, Nat.reduceSub, Nat.reduceEqDiff, Nat.le_refl, amN0le, amLeI, amLtI, amEqI, amLe0, amGt0, amEq0, amNotPosI, amGe0, amVI, amCl_nI, amAdd, amSub, amMul, a1, b1, c', x1, x2, eq']
          exact nx
        · have eq' : (nI (t.getD p 0) = nI (u.getD p 0)) = False := eq_false (fun z => eq ((nI_eq (by omega) (by omega)).mp z))
          have k0 : K (some (.int (nI 0))) h := by
            rw [show decide (t = u) = false from decide_eq_false (fun z => eq (by rw [z]))] at hK
            exact hK
          refine goJ13_equals hF 40 ?_
          simp (disch := omega) only [wJ13_equals_0, uJ13_equals_0, wJ13_equals_1, wJ13_equals_2, wJ13_equals_3, wJ13_equals_4, wJ13_equals_7, wJ13_equals_8, wJ13_equals_9, uJ13_equals_9, wJ13_equals_10, wJ13_equals_11, wJ13_equals_12, wJ13_equals_15, wJ13_equals_16, wJ13_equals_17, wJ13_equals_18, wJ13_equals_19, wJ13_equals_20, wJ13_equals_21, wJ13_equals_24, wJ13_equals_25, wJ13_equals_26, wJ13_equals_29, wJ13_equals_32, wJ13_equals_33, wJ13_equals_34, wJ13_equals_35, amSI_1, amSI_2, amSI_3, amSI_s, amU_at, amIsR_ref, amIsR_null, amIsR_rf, amRf_some, amRf_none, amClr_int, amClr_ref, amClr_null, amClr_long, amClr_ra, amClr_rf, amFit_int, amFit_oref, amFit_aref, amFit_onull, amFit_anull, amOptSome, amOptNone, List.cons_append, List.nil_append, true_and, and_true, true_implies, not_true_eq_false, not_false_eq_true, false_implies, and_self, Nat.add_zero, Nat.zero_add, ne_eq, Prod.mk.injEq, amC01_0, amC01_1, amC01_nb, amNb0, amNb1, amTcpI_d, Nat.reduceLeDiff, Nat.reduceAdd, Nat.reduceSub, Nat.reduceEqDiff, Nat.le_refl, amN0le, amLeI, amLtI, amEqI, amLe0, amGt0, amEq0, amNotPosI, amGe0, amVI, amCl_nI, amAdd, amSub, amMul, a1, b1, c', x1, x2, eq']
          exact amRet.of (by decide) (by decide) k0
    have nx := loop t.length 0 (by omega) (fun i hi => absurd hi (Nat.not_lt_zero i))
    have e0 : (nI t.length = nI u.length) = True := eq_true (by rw [hl])
    refine goJ13_equals hF 40 ?_
    simp (disch := omega) only [wJ13_equals_0, uJ13_equals_0, wJ13_equals_1, wJ13_equals_2, wJ13_equals_3, wJ13_equals_4, wJ13_equals_7, wJ13_equals_8, wJ13_equals_9, uJ13_equals_9, wJ13_equals_10, wJ13_equals_11, wJ13_equals_12, wJ13_equals_15, wJ13_equals_16, wJ13_equals_17, wJ13_equals_18, wJ13_equals_19, wJ13_equals_20, wJ13_equals_21, wJ13_equals_24, wJ13_equals_25, wJ13_equals_26, wJ13_equals_29, wJ13_equals_32, wJ13_equals_33, wJ13_equals_34, wJ13_equals_35, amSI_1, amSI_2, amSI_3, amSI_s, amU_at, amIsR_ref, amIsR_null, amIsR_rf, amRf_some, amRf_none, amClr_int, amClr_ref, amClr_null, amClr_long, amClr_ra, amClr_rf, amFit_int, amFit_oref, amFit_aref, amFit_onull, amFit_anull, amOptSome, amOptNone, List.cons_append, List.nil_append, true_and, and_true, true_implies, not_true_eq_false, not_false_eq_true, false_implies, and_self, Nat.add_zero, Nat.zero_add, ne_eq, Prod.mk.injEq, amC01_0, amC01_1, amC01_nb, amNb0, amNb1, amTcpI_d, Nat.reduceLeDiff, Nat.reduceAdd, Nat.reduceSub, Nat.reduceEqDiff, Nat.le_refl, amN0le, a1, b1, e0]
    exact nx
  · have e0 : (nI t.length = nI u.length) = False := eq_false (fun z => hl ((nI_eq (by omega) (by omega)).mp z))
    have k0 : K (some (.int (nI 0))) h := by
      rw [show decide (t = u) = false from decide_eq_false (fun z => hl (by rw [z]))] at hK
      exact hK
    refine goJ13_equals hF 40 ?_
    simp (disch := omega) only [wJ13_equals_0, uJ13_equals_0, wJ13_equals_1, wJ13_equals_2, wJ13_equals_3, wJ13_equals_4, wJ13_equals_7, wJ13_equals_8, wJ13_equals_9, uJ13_equals_9, wJ13_equals_10, wJ13_equals_11, wJ13_equals_12, wJ13_equals_15, wJ13_equals_16, wJ13_equals_17, wJ13_equals_18, wJ13_equals_19, wJ13_equals_20, wJ13_equals_21, wJ13_equals_24, wJ13_equals_25, wJ13_equals_26, wJ13_equals_29, wJ13_equals_32, wJ13_equals_33, wJ13_equals_34, wJ13_equals_35, amSI_1, amSI_2, amSI_3, amSI_s, amU_at, amIsR_ref, amIsR_null, amIsR_rf, amRf_some, amRf_none, amClr_int, amClr_ref, amClr_null, amClr_long, amClr_ra, amClr_rf, amFit_int, amFit_oref, amFit_aref, amFit_onull, amFit_anull, amOptSome, amOptNone, List.cons_append, List.nil_append, true_and, and_true, true_implies, not_true_eq_false, not_false_eq_true, false_implies, and_self, Nat.add_zero, Nat.zero_add, ne_eq, Prod.mk.injEq, amC01_0, amC01_1, amC01_nb, amNb0, amNb1, amTcpI_d, Nat.reduceLeDiff, Nat.reduceAdd, Nat.reduceSub, Nat.reduceEqDiff, Nat.le_refl, amN0le, a1, b1, e0]
    exact amRet.of (by decide) (by decide) k0
theorem tJ13_equals_d {a b : Nat} {h : amH} {K : Option Value → amH → Prop} : tJ13_equals [.ref a, .ref b] h K = ∃ t u : List Nat, ByIs h a t ∧ ByIs h b u ∧ K (some (.int (amC01 (decide (t = u))))) h := rfl
def tJ6_equals : amT := fun as h K => match as with
  | [.ref s, .ref q] => ∃ t u : List Nat, StIs h s t ∧ StIs h q u ∧ (24 : Nat) ≤ s ∧ q ≠ s ∧ K (some (.int (amC01 (decide (t = u))))) h
  | _ => False
/-! java/lang/String.equals(Ljava/lang/Object;)Z -/
def kJ6_equals : Nat → Bool := fun pc => false
def rJ6_equals : List (Nat × amS) := [(8, 1, 0, 0, amTinS), (15, 1, 0, 0, amTcaS), (19, 0, 0, 0, amTcon (.int 1)), (26, 1, 0, 0, amTget 7 1), (30, 1, 0, 0, amTget 7 1), (37, 1, 0, 0, amTget 7 0), (41, 1, 0, 0, amTget 7 0), (44, 2, 0, 0, tJ13_equals)]
def eJ6_equals (ret : Option Value → amH → Nat → Nat → Prop) (F : amX) : Nat → amX := amWp cJ6_equals kJ6_equals (amLk rJ6_equals) (some .boolean) 0 0 ret F
def sJ6_equals (ret : Option Value → amH → Nat → Nat → Prop) (F : amX) : Nat → amX := amWs cJ6_equals kJ6_equals (amLk rJ6_equals) (some .boolean) 0 0 ret F
theorem wJ6_equals_0 {ret F n h} {v0 v1 v2 st} : eJ6_equals ret F (n + 1) 0 [v0, v1, v2] (st) h 0 0 = (amIsR v0 ∧ eJ6_equals ret F n 1 [v0, v1, v2] (v0 :: st) h 0 0) := (amWp_dec rfl dJ6_equals_0 rfl).trans rfl
theorem uJ6_equals_0 {ret F n h} {v0 v1 v2 st} : sJ6_equals ret F n 0 [v0, v1, v2] (st) h 0 0 = (amIsR v0 ∧ eJ6_equals ret F n 1 [v0, v1, v2] (v0 :: st) h 0 0) := (amWs_dec dJ6_equals_0 rfl).trans rfl
theorem wJ6_equals_1 {ret F n h} {v0 v1 v2 st} : eJ6_equals ret F (n + 1) 1 [v0, v1, v2] (st) h 0 0 = (amIsR v1 ∧ eJ6_equals ret F n 2 [v0, v1, v2] (v1 :: st) h 0 0) := (amWp_dec rfl dJ6_equals_1 rfl).trans rfl
theorem wJ6_equals_2 {ret F n h} {v0 v1 v2 st b a} : eJ6_equals ret F (n + 1) 2 [v0, v1, v2] (.ref b :: .ref a :: st) h 0 0 = ((amN0 ≤ a ∧ b ≠ a) ∧ eJ6_equals ret F n 7 [v0, v1, v2] (st) h 0 0) := (amWp_dec rfl dJ6_equals_2 rfl).trans rfl
theorem wJ6_equals_7 {ret F n h} {v0 v1 v2 st} : eJ6_equals ret F (n + 1) 7 [v0, v1, v2] (st) h 0 0 = (amIsR v1 ∧ eJ6_equals ret F n 8 [v0, v1, v2] (v1 :: st) h 0 0) := (amWp_dec rfl dJ6_equals_7 rfl).trans rfl
theorem wJ6_equals_8 {ret F n h} {v0 v1 v2 a} : eJ6_equals ret F (n + 1) 8 [v0, v1, v2] (.ref a :: []) h 0 0 = (h.1 a = (0, 7) ∧ eJ6_equals ret F n 11 [v0, v1, v2] (.int (nI 1) :: []) h 0 0) := (amWp_dec rfl dJ6_equals_8 rfl).trans (amS4 (Nat.le_of_ble_eq_true rfl) (Nat.le_of_ble_eq_true rfl) (Nat.le_of_ble_eq_true rfl) (Nat.le_of_ble_eq_true rfl))
theorem wJ6_equals_11 {ret F n h} {v0 v1 v2 st x} : eJ6_equals ret F (n + 1) 11 [v0, v1, v2] (.int x :: st) h 0 0 = ((x = 0 → eJ6_equals ret F n 54 [v0, v1, v2] (st) h 0 0) ∧ (¬ x = 0 → eJ6_equals ret F n 14 [v0, v1, v2] (st) h 0 0)) := (amWp_dec rfl dJ6_equals_11 rfl).trans rfl
theorem wJ6_equals_14 {ret F n h} {v0 v1 v2 st} : eJ6_equals ret F (n + 1) 14 [v0, v1, v2] (st) h 0 0 = (amIsR v1 ∧ eJ6_equals ret F n 15 [v0, v1, v2] (v1 :: st) h 0 0) := (amWp_dec rfl dJ6_equals_14 rfl).trans rfl
theorem wJ6_equals_15 {ret F n h} {v0 v1 v2 a} : eJ6_equals ret F (n + 1) 15 [v0, v1, v2] (.ref a :: []) h 0 0 = (h.1 a = (0, 7) ∧ eJ6_equals ret F n 18 [v0, v1, v2] (.ref a :: []) h 0 0) := (amWp_dec rfl dJ6_equals_15 rfl).trans (amS4 (Nat.le_of_ble_eq_true rfl) (Nat.le_of_ble_eq_true rfl) (Nat.le_of_ble_eq_true rfl) (Nat.le_of_ble_eq_true rfl))
theorem wJ6_equals_18 {ret F n h} {v0 v1 v2 w st} : eJ6_equals ret F (n + 1) 18 [v0, v1, v2] (w :: st) h 0 0 = (amIsR w ∧ eJ6_equals ret F n 19 [v0, amClr v1, w] (st) h 0 0) := (amWp_dec rfl dJ6_equals_18 rfl).trans (amTrue2 (Nat.le_of_ble_eq_true rfl))
theorem wJ6_equals_19 {ret F n h} {v0 v1 v2} : eJ6_equals ret F (n + 1) 19 [v0, v1, v2] ([]) h 0 0 = (eJ6_equals ret F n 22 [v0, v1, v2] (.int (nI 1) :: []) h 0 0) := (amWp_dec rfl dJ6_equals_19 rfl).trans (amS4 (Nat.le_of_ble_eq_true rfl) (Nat.le_of_ble_eq_true rfl) (Nat.le_of_ble_eq_true rfl) (Nat.le_of_ble_eq_true rfl))
theorem wJ6_equals_22 {ret F n h} {v0 v1 v2 st x} : eJ6_equals ret F (n + 1) 22 [v0, v1, v2] (.int x :: st) h 0 0 = ((x = 0 → eJ6_equals ret F n 36 [v0, v1, v2] (st) h 0 0) ∧ (¬ x = 0 → eJ6_equals ret F n 25 [v0, v1, v2] (st) h 0 0)) := (amWp_dec rfl dJ6_equals_22 rfl).trans rfl
theorem wJ6_equals_25 {ret F n h} {v0 v1 v2 st} : eJ6_equals ret F (n + 1) 25 [v0, v1, v2] (st) h 0 0 = (amIsR v0 ∧ eJ6_equals ret F n 26 [v0, v1, v2] (v0 :: st) h 0 0) := (amWp_dec rfl dJ6_equals_25 rfl).trans rfl
theorem wJ6_equals_26 {ret F n h} {v0 v1 v2 a} : eJ6_equals ret F (n + 1) 26 [v0, v1, v2] (.ref a :: []) h 0 0 = (h.1 a = (0, 7) ∧ eJ6_equals ret F n 29 [v0, v1, v2] (.int (h.2.1 a 1) :: []) h 0 0) := (amWp_dec rfl dJ6_equals_26 rfl).trans (amS4 (Nat.le_of_ble_eq_true rfl) (Nat.le_of_ble_eq_true rfl) (Nat.le_of_ble_eq_true rfl) (Nat.le_of_ble_eq_true rfl))
theorem wJ6_equals_29 {ret F n h} {v0 v1 v2 st} : eJ6_equals ret F (n + 1) 29 [v0, v1, v2] (st) h 0 0 = (amIsR v2 ∧ eJ6_equals ret F n 30 [v0, v1, v2] (v2 :: st) h 0 0) := (amWp_dec rfl dJ6_equals_29 rfl).trans rfl
theorem wJ6_equals_30 {ret F n h} {v0 v1 v2 r0 a} : eJ6_equals ret F (n + 1) 30 [v0, v1, v2] (.ref a :: r0 :: []) h 0 0 = (h.1 a = (0, 7) ∧ eJ6_equals ret F n 33 [v0, v1, v2] (.int (h.2.1 a 1) :: r0 :: []) h 0 0) := (amWp_dec rfl dJ6_equals_30 rfl).trans (amS4 (Nat.le_of_ble_eq_true rfl) (Nat.le_of_ble_eq_true rfl) (Nat.le_of_ble_eq_true rfl) (Nat.le_of_ble_eq_true rfl))
theorem wJ6_equals_33 {ret F n h} {v0 v1 v2 st y x} : eJ6_equals ret F (n + 1) 33 [v0, v1, v2] (.int y :: .int x :: st) h 0 0 = ((¬ x = y → eJ6_equals ret F n 54 [v0, v1, v2] (st) h 0 0) ∧ (x = y → eJ6_equals ret F n 36 [v0, v1, v2] (st) h 0 0)) := (amWp_dec rfl dJ6_equals_33 rfl).trans rfl
theorem wJ6_equals_36 {ret F n h} {v0 v1 v2 st} : eJ6_equals ret F (n + 1) 36 [v0, v1, v2] (st) h 0 0 = (amIsR v0 ∧ eJ6_equals ret F n 37 [v0, v1, v2] (v0 :: st) h 0 0) := (amWp_dec rfl dJ6_equals_36 rfl).trans rfl
theorem wJ6_equals_37 {ret F n h} {v0 v1 v2 a} : eJ6_equals ret F (n + 1) 37 [v0, v1, v2] (.ref a :: []) h 0 0 = (h.1 a = (0, 7) ∧ eJ6_equals ret F n 40 [v0, v1, v2] (va_rf (h.2.2.2.1 a 0) :: []) h 0 0) := (amWp_dec rfl dJ6_equals_37 rfl).trans (amS4 (Nat.le_of_ble_eq_true rfl) (Nat.le_of_ble_eq_true rfl) (Nat.le_of_ble_eq_true rfl) (Nat.le_of_ble_eq_true rfl))
theorem wJ6_equals_40 {ret F n h} {v0 v1 v2 st} : eJ6_equals ret F (n + 1) 40 [v0, v1, v2] (st) h 0 0 = (amIsR v2 ∧ eJ6_equals ret F n 41 [v0, v1, v2] (v2 :: st) h 0 0) := (amWp_dec rfl dJ6_equals_40 rfl).trans rfl
theorem wJ6_equals_41 {ret F n h} {v0 v1 v2 r0 a} : eJ6_equals ret F (n + 1) 41 [v0, v1, v2] (.ref a :: r0 :: []) h 0 0 = (h.1 a = (0, 7) ∧ eJ6_equals ret F n 44 [v0, v1, v2] (va_rf (h.2.2.2.1 a 0) :: r0 :: []) h 0 0) := (amWp_dec rfl dJ6_equals_41 rfl).trans (amS4 (Nat.le_of_ble_eq_true rfl) (Nat.le_of_ble_eq_true rfl) (Nat.le_of_ble_eq_true rfl) (Nat.le_of_ble_eq_true rfl))
theorem wJ6_equals_44 {ret F n h} {v0 v1 v2 x1 x0} : eJ6_equals ret F (n + 1) 44 [v0, v1, v2] (.ref x1 :: .ref x0 :: []) h 0 0 = (tJ13_equals [.ref x0, .ref x1] h (fun v h => eJ6_equals ret F n 47 [v0, v1, v2] (v.toList ++ ([])) h 0 0)) := (amWp_dec rfl dJ6_equals_44 rfl).trans (amS4 (Nat.le_of_ble_eq_true rfl) (Nat.le_of_ble_eq_true rfl) (Nat.le_of_ble_eq_true rfl) (Nat.le_of_ble_eq_true rfl))
theorem wJ6_equals_47 {ret F n h} {v0 v1 v2 st x} : eJ6_equals ret F (n + 1) 47 [v0, v1, v2] (.int x :: st) h 0 0 = ((x = 0 → eJ6_equals ret F n 54 [v0, v1, v2] (st) h 0 0) ∧ (¬ x = 0 → eJ6_equals ret F n 50 [v0, v1, v2] (st) h 0 0)) := (amWp_dec rfl dJ6_equals_47 rfl).trans rfl
theorem wJ6_equals_50 {ret F n h} {v0 v1 v2 st} : eJ6_equals ret F (n + 1) 50 [v0, v1, v2] (st) h 0 0 = (eJ6_equals ret F n 51 [v0, v1, v2] (.int (nI 1) :: st) h 0 0) := (amWp_dec rfl dJ6_equals_50 rfl).trans rfl
theorem wJ6_equals_51 {ret F n h} {v0 v1 v2 st} : eJ6_equals ret F (n + 1) 51 [v0, v1, v2] (st) h 0 0 = (eJ6_equals ret F n 55 [v0, v1, v2] (st) h 0 0) := (amWp_dec rfl dJ6_equals_51 rfl).trans rfl
theorem wJ6_equals_54 {ret F n h} {v0 v1 v2 st} : eJ6_equals ret F (n + 1) 54 [v0, v1, v2] (st) h 0 0 = (eJ6_equals ret F n 55 [v0, v1, v2] (.int (nI 0) :: st) h 0 0) := (amWp_dec rfl dJ6_equals_54 rfl).trans rfl
theorem wJ6_equals_55 {ret F n h} {v0 v1 v2 x} : eJ6_equals ret F (n + 1) 55 [v0, v1, v2] ([.int x]) h 0 0 = (narrow .boolean (.int x) = .int x ∧ ret (some (.int x)) h 0 0) := (amWp_dec rfl dJ6_equals_55 rfl).trans (amRetTy)
theorem evJ6_equals (l : Launch) (G : amG) : ∀ pc S i sz, amLk rJ6_equals pc = some S → decode cJ6_equals pc = .ok (i, sz) → amSiteP pc G l yJ6_equals.cls yJ6_equals.name yJ6_equals.desc (amRm 2 0 0) i sz S.1 S.2.1 S.2.2.1 S.2.2.2 := amLk_ok (by
  refine List.forall_mem_cons.mpr ⟨⟨_, _, dJ6_equals_8, amSite.P (amSiteInS q1119)⟩, ?_⟩
  refine List.forall_mem_cons.mpr ⟨⟨_, _, dJ6_equals_15, amSite.P (amSiteCaS q1119)⟩, ?_⟩
  refine List.forall_mem_cons.mpr ⟨⟨_, _, dJ6_equals_19, amSite.P (amSiteGs (List.mem_of_getElem? (i := 0) rfl) q719)⟩, ?_⟩
  refine List.forall_mem_cons.mpr ⟨⟨_, _, dJ6_equals_26, amSite.P (amSiteGet ⟨_, rfl, by decide, Or.inl q834⟩)⟩, ?_⟩
  refine List.forall_mem_cons.mpr ⟨⟨_, _, dJ6_equals_30, amSite.P (amSiteGet ⟨_, rfl, by decide, Or.inl q834⟩)⟩, ?_⟩
  refine List.forall_mem_cons.mpr ⟨⟨_, _, dJ6_equals_37, amSite.P (amSiteGet ⟨_, rfl, by decide, Or.inl q833⟩)⟩, ?_⟩
  refine List.forall_mem_cons.mpr ⟨⟨_, _, dJ6_equals_41, amSite.P (amSiteGet ⟨_, rfl, by decide, Or.inl q833⟩)⟩, ?_⟩
  refine List.forall_mem_cons.mpr ⟨⟨_, _, dJ6_equals_44, amSite.P (amSiteS (metJ13_equals l G) rfl (by decide) (by decide) (lw_S q1120 q1121 q109 q1122) ⟨by decide +kernel, by decide +kernel, by decide +kernel⟩)⟩, ?_⟩
  exact fun _ h => absurd h List.not_mem_nil)
theorem goJ6_equals {ret F} (hF : amCld cJ6_equals kJ6_equals (amLk rJ6_equals) (some .boolean) 0 0 ret F) (n : Nat) {pc ls st h k z} (q : sJ6_equals ret F n pc ls st h k z) : F pc ls st h k z := hF.1 n pc ls st h k z q
theorem metJ6_equals (l : Launch) (G : amG) : amMet l G yJ6_equals (ws_ yJ6_equals cJ6_equals 3 (some .boolean)) 2 0 0 tJ6_equals := by
  refine amMet_of (cut := kJ6_equals) (by decide +kernel) (evJ6_equals l G) ?_
  intro as h K hT
  match as, hT with
  | [.ref s, .ref q], ⟨t, u, hs, hq, s24, qs, hK⟩ =>
  refine ⟨Nat.le_of_ble_eq_true rfl, fun F hF => ?_⟩
  show F 0 [.ref s, .ref q, .retAddr 0] [] h 0 0
  obtain ⟨s, rfl⟩ : ∃ i : Nat, i = s := ⟨_, rfl⟩
  obtain ⟨q, rfl⟩ : ∃ i : Nat, i = q := ⟨_, rfl⟩
  have s24' : (amN0 ≤ s) = True := eq_true s24
  have qs' : (q = s) = False := eq_false qs
  obtain ⟨s1, s2, v, s3, s4, s5, s6, s7, s8, s9⟩ := hs
  obtain ⟨q1, q2, w, q3, q4, q5, q6, q7, q8, q9⟩ := hq
  refine goJ6_equals hF 40 ?_
  simp (disch := omega) only [wJ6_equals_0, uJ6_equals_0, wJ6_equals_1, wJ6_equals_2, wJ6_equals_7, wJ6_equals_8, wJ6_equals_11, wJ6_equals_14, wJ6_equals_15, wJ6_equals_18, wJ6_equals_19, wJ6_equals_22, wJ6_equals_25, wJ6_equals_26, wJ6_equals_29, wJ6_equals_30, wJ6_equals_33, wJ6_equals_36, wJ6_equals_37, wJ6_equals_40, wJ6_equals_41, wJ6_equals_44, wJ6_equals_47, wJ6_equals_50, wJ6_equals_51, wJ6_equals_54, wJ6_equals_55, amSI_1, amSI_2, amSI_3, amSI_s, amU_at, amIsR_ref, amIsR_null, amIsR_rf, amRf_some, amRf_none, amClr_int, amClr_ref, amClr_null, amClr_long, amClr_ra, amClr_rf, amFit_int, amFit_oref, amFit_aref, amFit_onull, amFit_anull, amOptSome, amOptNone, List.cons_append, List.nil_append, true_and, and_true, true_implies, not_true_eq_false, not_false_eq_true, false_implies, and_self, Nat.add_zero, Nat.zero_add, ne_eq, Prod.mk.injEq, amC01_0, amC01_1, amC01_nb, amNb0, amNb1, amTcpI_d, Nat.reduceLeDiff, Nat.reduceAdd, Nat.reduceSub, Nat.reduceEqDiff, Nat.le_refl, amN0le, amLeI, amLtI, amEqI, amLe0, amGt0, amEq0, amNotPosI, amGe0, amVI, amCl_nI, amAdd, amSub, amMul, s1, s4, s5, q1, q4, q5, s24', qs']
  rw [tJ13_equals_d]
  refine ⟨t, u, ⟨s6, s7, s8, s9⟩, ⟨q6, q7, q8, q9⟩, ?_⟩
  by_cases c : t = u
  · have e : decide (t = u) = true := decide_eq_true c
    rw [e] at hK ⊢
    simp (disch := omega) only [wJ6_equals_0, uJ6_equals_0, wJ6_equals_1, wJ6_equals_2, wJ6_equals_7, wJ6_equals_8, wJ6_equals_11, wJ6_equals_14, wJ6_equals_15, wJ6_equals_18, wJ6_equals_19, wJ6_equals_22, wJ6_equals_25, wJ6_equals_26, wJ6_equals_29, wJ6_equals_30, wJ6_equals_33, wJ6_equals_36, wJ6_equals_37, wJ6_equals_40, wJ6_equals_41, wJ6_equals_44, wJ6_equals_47, wJ6_equals_50, wJ6_equals_51, wJ6_equals_54, wJ6_equals_55, amSI_1, amSI_2, amSI_3, amSI_s, amU_at, amIsR_ref, amIsR_null, amIsR_rf, amRf_some, amRf_none, amClr_int, amClr_ref, amClr_null, amClr_long, amClr_ra, amClr_rf, amFit_int, amFit_oref, amFit_aref, amFit_onull, amFit_anull, amOptSome, amOptNone, List.cons_append, List.nil_append, true_and, and_true, true_implies, not_true_eq_false, not_false_eq_true, false_implies, and_self, Nat.add_zero, Nat.zero_add, ne_eq, Prod.mk.injEq, amC01_0, amC01_1, amC01_nb, amNb0, amNb1, amTcpI_d, Nat.reduceLeDiff, Nat.reduceAdd, Nat.reduceSub, Nat.reduceEqDiff, Nat.le_refl, amN0le, amLeI, amLtI, amEqI, amLe0, amGt0, amEq0, amNotPosI, amGe0, amVI, amCl_nI, amAdd, amSub, amMul, show amC01 true = nI 1 from rfl]
    exact amRet.of (by decide) (by decide) hK
  · have e : decide (t = u) = false := decide_eq_false c
    rw [e] at hK ⊢
    simp (disch := omega) only [wJ6_equals_0, uJ6_equals_0, wJ6_equals_1, wJ6_equals_2, wJ6_equals_7, wJ6_equals_8, wJ6_equals_11, wJ6_equals_14, wJ6_equals_15, wJ6_equals_18, wJ6_equals_19, wJ6_equals_22, wJ6_equals_25, wJ6_equals_26, wJ6_equals_29, wJ6_equals_30, wJ6_equals_33, wJ6_equals_36, wJ6_equals_37, wJ6_equals_40, wJ6_equals_41, wJ6_equals_44, wJ6_equals_47, wJ6_equals_50, wJ6_equals_51, wJ6_equals_54, wJ6_equals_55, amSI_1, amSI_2, amSI_3, amSI_s, amU_at, amIsR_ref, amIsR_null, amIsR_rf, amRf_some, amRf_none, amClr_int, amClr_ref, amClr_null, amClr_long, amClr_ra, amClr_rf, amFit_int, amFit_oref, amFit_aref, amFit_onull, amFit_anull, amOptSome, amOptNone, List.cons_append, List.nil_append, true_and, and_true, true_implies, not_true_eq_false, not_false_eq_true, false_implies, and_self, Nat.add_zero, Nat.zero_add, ne_eq, Prod.mk.injEq, amC01_0, amC01_1, amC01_nb, amNb0, amNb1, amTcpI_d, Nat.reduceLeDiff, Nat.reduceAdd, Nat.reduceSub, Nat.reduceEqDiff, Nat.le_refl, amN0le, amLeI, amLtI, amEqI, amLe0, amGt0, amEq0, amNotPosI, amGe0, amVI, amCl_nI, amAdd, amSub, amMul, show amC01 false = nI 0 from rfl]
    exact amRet.of (by decide) (by decide) hK
theorem tJ6_equals_d {s q : Nat} {h : amH} {K : Option Value → amH → Prop} : tJ6_equals [.ref s, .ref q] h K = ∃ t u : List Nat, StIs h s t ∧ StIs h q u ∧ (24 : Nat) ≤ s ∧ q ≠ s ∧ K (some (.int (amC01 (decide (t = u))))) h := rfl
def tJ6_toString : amT := fun as h K => match as with
  | [.ref s] => K (some (.ref s)) h
  | _ => False
/-! java/lang/String.toString()Ljava/lang/String; -/
def kJ6_toString : Nat → Bool := fun pc => false
def rJ6_toString : List (Nat × amS) := []
def eJ6_toString (ret : Option Value → amH → Nat → Nat → Prop) (F : amX) : Nat → amX := amWp cJ6_toString kJ6_toString (amLk rJ6_toString) (some (FieldType.object "java/lang/String")) 0 0 ret F
def sJ6_toString (ret : Option Value → amH → Nat → Nat → Prop) (F : amX) : Nat → amX := amWs cJ6_toString kJ6_toString (amLk rJ6_toString) (some (FieldType.object "java/lang/String")) 0 0 ret F
theorem wJ6_toString_0 {ret F n h} {v0 st} : eJ6_toString ret F (n + 1) 0 [v0] (st) h 0 0 = (amIsR v0 ∧ eJ6_toString ret F n 1 [v0] (v0 :: st) h 0 0) := (amWp_dec rfl dJ6_toString_0 rfl).trans rfl
theorem uJ6_toString_0 {ret F n h} {v0 st} : sJ6_toString ret F n 0 [v0] (st) h 0 0 = (amIsR v0 ∧ eJ6_toString ret F n 1 [v0] (v0 :: st) h 0 0) := (amWs_dec dJ6_toString_0 rfl).trans rfl
theorem wJ6_toString_1 {ret F n h} {v0 w} : eJ6_toString ret F (n + 1) 1 [v0] ([w]) h 0 0 = (amIsR w ∧ ret (some w) h 0 0) := (amWp_dec rfl dJ6_toString_1 rfl).trans (amTrue ⟨_, rfl, rfl⟩)
theorem evJ6_toString (l : Launch) (G : amG) : ∀ pc S i sz, amLk rJ6_toString pc = some S → decode cJ6_toString pc = .ok (i, sz) → amSiteP pc G l yJ6_toString.cls yJ6_toString.name yJ6_toString.desc (amRm 1 0 0) i sz S.1 S.2.1 S.2.2.1 S.2.2.2 := amLk_ok (by
  exact fun _ h => absurd h List.not_mem_nil)
theorem goJ6_toString {ret F} (hF : amCld cJ6_toString kJ6_toString (amLk rJ6_toString) (some (FieldType.object "java/lang/String")) 0 0 ret F) (n : Nat) {pc ls st h k z} (q : sJ6_toString ret F n pc ls st h k z) : F pc ls st h k z := hF.1 n pc ls st h k z q
theorem metJ6_toString (l : Launch) (G : amG) : amMet l G yJ6_toString (ws_ yJ6_toString cJ6_toString 1 (some (FieldType.object "java/lang/String"))) 1 0 0 tJ6_toString := by
  refine amMet_of (cut := kJ6_toString) (by decide +kernel) (evJ6_toString l G) ?_
  intro as h K hT
  match as, hT with
  | [.ref s], hK =>
  refine ⟨Nat.le_of_ble_eq_true rfl, fun F hF => ?_⟩
  show F 0 [.ref s] [] h 0 0
  obtain ⟨s, rfl⟩ : ∃ i : Nat, i = s := ⟨_, rfl⟩
  refine goJ6_toString hF 10 ?_
  simp (disch := omega) only [wJ6_toString_0, uJ6_toString_0, wJ6_toString_1, amSI_1, amSI_2, amSI_3, amSI_s, amU_at, amIsR_ref, amIsR_null, amIsR_rf, amRf_some, amRf_none, amClr_int, amClr_ref, amClr_null, amClr_long, amClr_ra, amClr_rf, amFit_int, amFit_oref, amFit_aref, amFit_onull, amFit_anull, amOptSome, amOptNone, List.cons_append, List.nil_append, true_and, and_true, true_implies, not_true_eq_false, not_false_eq_true, false_implies, and_self, Nat.add_zero, Nat.zero_add, ne_eq, Prod.mk.injEq, amC01_0, amC01_1, amC01_nb, amNb0, amNb1, amTcpI_d, Nat.reduceLeDiff, Nat.reduceAdd, Nat.reduceSub, Nat.reduceEqDiff, Nat.le_refl, amN0le]
  exact amRet.of (by decide) (by decide) hK
theorem tJ6_toString_d {s : Nat} {h : amH} {K : Option Value → amH → Prop} : tJ6_toString [.ref s] h K = K (some (.ref s)) h := rfl
def tX4_length : amT := fun as h K => match as with
  | [.ref a] => h.1 a = (0, 4) ∧ K (some (.int (h.2.1 a 1))) h
  | _ => False
/-! ReadingStages$Letters.length()I -/
def kX4_length : Nat → Bool := fun pc => false
def rX4_length : List (Nat × amS) := [(1, 1, 0, 0, amTget 4 1)]
def eX4_length (ret : Option Value → amH → Nat → Nat → Prop) (F : amX) : Nat → amX := amWp cX4_length kX4_length (amLk rX4_length) (some .int) 0 0 ret F
def sX4_length (ret : Option Value → amH → Nat → Nat → Prop) (F : amX) : Nat → amX := amWs cX4_length kX4_length (amLk rX4_length) (some .int) 0 0 ret F
theorem wX4_length_0 {ret F n h} {v0 st} : eX4_length ret F (n + 1) 0 [v0] (st) h 0 0 = (amIsR v0 ∧ eX4_length ret F n 1 [v0] (v0 :: st) h 0 0) := (amWp_dec rfl dX4_length_0 rfl).trans rfl
theorem uX4_length_0 {ret F n h} {v0 st} : sX4_length ret F n 0 [v0] (st) h 0 0 = (amIsR v0 ∧ eX4_length ret F n 1 [v0] (v0 :: st) h 0 0) := (amWs_dec dX4_length_0 rfl).trans rfl
theorem wX4_length_1 {ret F n h} {v0 a} : eX4_length ret F (n + 1) 1 [v0] (.ref a :: []) h 0 0 = (h.1 a = (0, 4) ∧ eX4_length ret F n 4 [v0] (.int (h.2.1 a 1) :: []) h 0 0) := (amWp_dec rfl dX4_length_1 rfl).trans (amS4 (Nat.le_of_ble_eq_true rfl) (Nat.le_of_ble_eq_true rfl) (Nat.le_of_ble_eq_true rfl) (Nat.le_of_ble_eq_true rfl))
theorem wX4_length_4 {ret F n h} {v0 x} : eX4_length ret F (n + 1) 4 [v0] ([.int x]) h 0 0 = (ret (some (.int x)) h 0 0) := (amWp_dec rfl dX4_length_4 rfl).trans (amTrue ⟨_, rfl, rfl⟩)
theorem evX4_length (l : Launch) (G : amG) : ∀ pc S i sz, amLk rX4_length pc = some S → decode cX4_length pc = .ok (i, sz) → amSiteP pc G l yX4_length.cls yX4_length.name yX4_length.desc (amRm 1 0 0) i sz S.1 S.2.1 S.2.2.1 S.2.2.2 := amLk_ok (by
  refine List.forall_mem_cons.mpr ⟨⟨_, _, dX4_length_1, amSite.P (amSiteGet ⟨_, rfl, by decide, Or.inl q272⟩)⟩, ?_⟩
  exact fun _ h => absurd h List.not_mem_nil)
theorem goX4_length {ret F} (hF : amCld cX4_length kX4_length (amLk rX4_length) (some .int) 0 0 ret F) (n : Nat) {pc ls st h k z} (q : sX4_length ret F n pc ls st h k z) : F pc ls st h k z := hF.1 n pc ls st h k z q
theorem metX4_length (l : Launch) (G : amG) : amMet l G yX4_length (ws_ yX4_length cX4_length 1 (some .int)) 1 0 0 tX4_length := by
  refine amMet_of (cut := kX4_length) (by decide +kernel) (evX4_length l G) ?_
  intro as h K hT
  match as, hT with
  | [.ref a], ⟨h1, hK⟩ =>
  refine ⟨Nat.le_of_ble_eq_true rfl, fun F hF => ?_⟩
  show F 0 [.ref a] [] h 0 0
  obtain ⟨a, rfl⟩ : ∃ i : Nat, i = a := ⟨_, rfl⟩
  refine goX4_length hF 10 ?_
  simp (disch := omega) only [wX4_length_0, uX4_length_0, wX4_length_1, wX4_length_4, amSI_1, amSI_2, amSI_3, amSI_s, amU_at, amIsR_ref, amIsR_null, amIsR_rf, amRf_some, amRf_none, amClr_int, amClr_ref, amClr_null, amClr_long, amClr_ra, amClr_rf, amFit_int, amFit_oref, amFit_aref, amFit_onull, amFit_anull, amOptSome, amOptNone, List.cons_append, List.nil_append, true_and, and_true, true_implies, not_true_eq_false, not_false_eq_true, false_implies, and_self, Nat.add_zero, Nat.zero_add, ne_eq, Prod.mk.injEq, amC01_0, amC01_1, amC01_nb, amNb0, amNb1, amTcpI_d, Nat.reduceLeDiff, Nat.reduceAdd, Nat.reduceSub, Nat.reduceEqDiff, Nat.le_refl, amN0le, h1]
  exact amRet.of (by decide) (by decide) hK
theorem tX4_length_d {a : Nat} {h : amH} {K : Option Value → amH → Prop} : tX4_length [.ref a] h K = (h.1 a = (0, 4) ∧ K (some (.int (h.2.1 a 1))) h) := rfl
/-- the tape -/
def LtIs (h : amH) (t : List Nat) : Prop := h.1 43 = (0, 4) ∧ h.2.2.2.1 43 0 = some 44 ∧ h.1 44 = (3, 90) ∧ TpIs h.2.1 t
def tX4_charAt : amT := fun as h K => match as with
  | [.ref a, .int x] => ∃ (t : List Nat) (p : Nat), a = (43 : Nat) ∧ LtIs h t ∧ x = nI p ∧ p < t.length ∧ K (some (.int (nI (t.getD p 0)))) h
  | _ => False
/-! ReadingStages$Letters.charAt(I)C -/
def kX4_charAt : Nat → Bool := fun pc => false
def rX4_charAt : List (Nat × amS) := [(1, 1, 0, 0, amTget 4 0)]
def eX4_charAt (ret : Option Value → amH → Nat → Nat → Prop) (F : amX) : Nat → amX := amWp cX4_charAt kX4_charAt (amLk rX4_charAt) (some .char) 0 0 ret F
def sX4_charAt (ret : Option Value → amH → Nat → Nat → Prop) (F : amX) : Nat → amX := amWs cX4_charAt kX4_charAt (amLk rX4_charAt) (some .char) 0 0 ret F
theorem wX4_charAt_0 {ret F n h} {v0 v1 st} : eX4_charAt ret F (n + 1) 0 [v0, v1] (st) h 0 0 = (amIsR v0 ∧ eX4_charAt ret F n 1 [v0, v1] (v0 :: st) h 0 0) := (amWp_dec rfl dX4_charAt_0 rfl).trans rfl
theorem uX4_charAt_0 {ret F n h} {v0 v1 st} : sX4_charAt ret F n 0 [v0, v1] (st) h 0 0 = (amIsR v0 ∧ eX4_charAt ret F n 1 [v0, v1] (v0 :: st) h 0 0) := (amWs_dec dX4_charAt_0 rfl).trans rfl
theorem wX4_charAt_1 {ret F n h} {v0 v1 a} : eX4_charAt ret F (n + 1) 1 [v0, v1] (.ref a :: []) h 0 0 = (h.1 a = (0, 4) ∧ eX4_charAt ret F n 4 [v0, v1] (va_rf (h.2.2.2.1 a 0) :: []) h 0 0) := (amWp_dec rfl dX4_charAt_1 rfl).trans (amS4 (Nat.le_of_ble_eq_true rfl) (Nat.le_of_ble_eq_true rfl) (Nat.le_of_ble_eq_true rfl) (Nat.le_of_ble_eq_true rfl))
theorem wX4_charAt_4 {ret F n h} {v0 st x} : eX4_charAt ret F (n + 1) 4 [v0, .int x] (st) h 0 0 = (eX4_charAt ret F n 5 [v0, .int x] (.int x :: st) h 0 0) := (amWp_dec rfl dX4_charAt_4 rfl).trans rfl
theorem wX4_charAt_5 {ret F n h} {v0 v1 st x a} : eX4_charAt ret F (n + 1) 5 [v0, v1] (.int x :: .ref a :: st) h 0 0 = ((h.1 a).1 = 3 ∧ vp_in x (h.1 a).2 ∧ eX4_charAt ret F n 6 [v0, v1] (.int (h.2.1 a x.toNatClampNeg) :: st) h 0 0) := (amWp_dec rfl dX4_charAt_5 rfl).trans rfl
theorem wX4_charAt_6 {ret F n h} {v0 v1 x} : eX4_charAt ret F (n + 1) 6 [v0, v1] ([.int x]) h 0 0 = (narrow .char (.int x) = .int x ∧ ret (some (.int x)) h 0 0) := (amWp_dec rfl dX4_charAt_6 rfl).trans (amRetTy)
theorem evX4_charAt (l : Launch) (G : amG) : ∀ pc S i sz, amLk rX4_charAt pc = some S → decode cX4_charAt pc = .ok (i, sz) → amSiteP pc G l yX4_charAt.cls yX4_charAt.name yX4_charAt.desc (amRm 1 0 0) i sz S.1 S.2.1 S.2.2.1 S.2.2.2 := amLk_ok (by
  refine List.forall_mem_cons.mpr ⟨⟨_, _, dX4_charAt_1, amSite.P (amSiteGet ⟨_, rfl, by decide, Or.inl q270⟩)⟩, ?_⟩
  exact fun _ h => absurd h List.not_mem_nil)
theorem goX4_charAt {ret F} (hF : amCld cX4_charAt kX4_charAt (amLk rX4_charAt) (some .char) 0 0 ret F) (n : Nat) {pc ls st h k z} (q : sX4_charAt ret F n pc ls st h k z) : F pc ls st h k z := hF.1 n pc ls st h k z q
theorem metX4_charAt (l : Launch) (G : amG) : amMet l G yX4_charAt (ws_ yX4_charAt cX4_charAt 2 (some .char)) 1 0 0 tX4_charAt := by
  refine amMet_of (cut := kX4_charAt) (by decide +kernel) (evX4_charAt l G) ?_
  intro as h K hT
  match as, hT with
  | [.ref a, .int x], ⟨t, p, e1, ⟨h1, h2, h3, h4, h5, h6, h7⟩, e2, hp, hK⟩ =>
  refine ⟨Nat.le_of_ble_eq_true rfl, fun F hF => ?_⟩
  show F 0 [.ref a, .int x] [] h 0 0
  obtain ⟨a, rfl⟩ : ∃ i : Nat, i = a := ⟨_, rfl⟩
  subst e1 e2
  have hx := h6 p hp
  have c1 := (h7 _ (getD_mem hp)).2
  have f3 := (chrF _ (show t.getD p 0 < 128 by omega)).2.2
  refine goX4_charAt hF 10 ?_
  simp (disch := omega) only [wX4_charAt_0, uX4_charAt_0, wX4_charAt_1, wX4_charAt_4, wX4_charAt_5, wX4_charAt_6, amSI_1, amSI_2, amSI_3, amSI_s, amU_at, amIsR_ref, amIsR_null, amIsR_rf, amRf_some, amRf_none, amClr_int, amClr_ref, amClr_null, amClr_long, amClr_ra, amClr_rf, amFit_int, amFit_oref, amFit_aref, amFit_onull, amFit_anull, amOptSome, amOptNone, List.cons_append, List.nil_append, true_and, and_true, true_implies, not_true_eq_false, not_false_eq_true, false_implies, and_self, Nat.add_zero, Nat.zero_add, ne_eq, Prod.mk.injEq, amC01_0, amC01_1, amC01_nb, amNb0, amNb1, amTcpI_d, Nat.reduceLeDiff, Nat.reduceAdd, Nat.reduceSub, Nat.reduceEqDiff, Nat.le_refl, amN0le, amLeI, amLtI, amEqI, amLe0, amGt0, amEq0, amNotPosI, amGe0, amVI, amCl_nI, amAdd, amSub, amMul, h1, h2, h3, hx, f3]
  exact amRet.of (by decide) (by decide) hK
theorem tX4_charAt_d {a : Nat} {x : Int32} {h : amH} {K : Option Value → amH → Prop} : tX4_charAt [.ref a, .int x] h K = ∃ (t : List Nat) (p : Nat), a = (43 : Nat) ∧ LtIs h t ∧ x = nI p ∧ p < t.length ∧ K (some (.int (nI (t.getD p 0)))) h := rfl
theorem LtIs.same {h h' : amH} {t : List Nat} (q : LtIs h t) (e1 : amSame h h' 43) (e2 : amSame h h' 44) : LtIs h' t := ⟨by rw [e1.1]; exact q.1, by rw [e1.2.2.2]; exact q.2.1, by rw [e2.1]; exact q.2.2.1, q.2.2.2.mv e1.2.1 e2.2.1⟩
