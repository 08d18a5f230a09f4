/-! the JDK's strings: hash, equality -/
set_option maxRecDepth 100000
theorem amFitB1 : amFit .boolean (.int (nI 1)) = True := eq_true ⟨rfl, by decide, by decide⟩
def hsF : Int32 → List Nat → Int32
  | x, [] => x
  | x, c :: t => hsF (nI 31 * x + nI c) t
theorem drop_cons {t : List Nat} {p : Nat} (h : p < t.length) : t.drop p = t.getD p 0 :: t.drop (p + 1) := by
  rw [List.drop_eq_getElem_cons h, List.getD_eq_getElem?_getD, List.getElem?_eq_getElem h]
  rfl
/-- a row of letters -/
def ByIs (h : amH) (v : Nat) (t : List Nat) : Prop := h.1 v = (2, t.length) ∧ (∀ i, i < t.length → h.2.1 v i = nI (t.getD i 0)) ∧ (∀ c ∈ t, c < 128) ∧ t.length ≤ 302
def tJ10_signedHashCode : amT := fun as h K => match as with
  | [.int x, .ref a, .int f0, .int n0] => ∃ t : List Nat, ByIs h a t ∧ f0 = nI 0 ∧ n0 = nI t.length ∧ K (some (.int (hsF x t))) h
  | _ => False
/-! jdk/internal/util/ArraysSupport.signedHashCode(I[BII)I -/
def kJ10_signedHashCode : Nat → Bool := fun pc => pc == 8
def rJ10_signedHashCode : List (Nat × amS) := []
def eJ10_signedHashCode (ret : Option Value → amH → Nat → Nat → Prop) (F : amX) : Nat → amX := amWp cJ10_signedHashCode kJ10_signedHashCode (amLk rJ10_signedHashCode) (some .int) 0 0 ret F
def sJ10_signedHashCode (ret : Option Value → amH → Nat → Nat → Prop) (F : amX) : Nat → amX := amWs cJ10_signedHashCode kJ10_signedHashCode (amLk rJ10_signedHashCode) (some .int) 0 0 ret F
theorem wJ10_signedHashCode_0 {ret F n h} {v0 v1 v3 v4 v5 st x} : eJ10_signedHashCode ret F (n + 1) 0 [v0, v1, .int x, v3, v4, v5] (st) h 0 0 = (eJ10_signedHashCode ret F n 1 [v0, v1, .int x, v3, v4, v5] (.int x :: st) h 0 0) := (amWp_dec rfl dJ10_signedHashCode_0 rfl).trans rfl
theorem uJ10_signedHashCode_0 {ret F n h} {v0 v1 v3 v4 v5 st x} : sJ10_signedHashCode ret F n 0 [v0, v1, .int x, v3, v4, v5] (st) h 0 0 = (eJ10_signedHashCode ret F n 1 [v0, v1, .int x, v3, v4, v5] (.int x :: st) h 0 0) := (amWs_dec dJ10_signedHashCode_0 rfl).trans rfl
theorem wJ10_signedHashCode_1 {ret F n h} {v0 v1 v2 v4 v5 st x} : eJ10_signedHashCode ret F (n + 1) 1 [v0, v1, v2, .int x, v4, v5] (st) h 0 0 = (eJ10_signedHashCode ret F n 2 [v0, v1, v2, .int x, v4, v5] (.int x :: st) h 0 0) := (amWp_dec rfl dJ10_signedHashCode_1 rfl).trans rfl
theorem wJ10_signedHashCode_2 {ret F n h} {v0 v1 v2 v3 v4 v5 st y x} : eJ10_signedHashCode ret F (n + 1) 2 [v0, v1, v2, v3, v4, v5] (.int y :: .int x :: st) h 0 0 = (eJ10_signedHashCode ret F n 3 [v0, v1, v2, v3, v4, v5] (.int (x + y) :: st) h 0 0) := (amWp_dec rfl dJ10_signedHashCode_2 rfl).trans rfl
theorem wJ10_signedHashCode_3 {ret F n h} {v0 v1 v2 v3 v4 v5 st x} : eJ10_signedHashCode ret F (n + 1) 3 [v0, v1, v2, v3, v4, v5] (.int x :: st) h 0 0 = (eJ10_signedHashCode ret F n 5 [v0, v1, v2, amClr v3, .int x, v5] (st) h 0 0) := (amWp_dec rfl dJ10_signedHashCode_3 rfl).trans (amTrue (Nat.le_of_ble_eq_true rfl))
theorem wJ10_signedHashCode_5 {ret F n h} {v0 v1 v3 v4 v5 st x} : eJ10_signedHashCode ret F (n + 1) 5 [v0, v1, .int x, v3, v4, v5] (st) h 0 0 = (eJ10_signedHashCode ret F n 6 [v0, v1, .int x, v3, v4, v5] (.int x :: st) h 0 0) := (amWp_dec rfl dJ10_signedHashCode_5 rfl).trans rfl
theorem wJ10_signedHashCode_6 {ret F n h} {v0 v1 v2 v3 v4 v5 st x} : eJ10_signedHashCode ret F (n + 1) 6 [v0, v1, v2, v3, v4, v5] (.int x :: st) h 0 0 = (eJ10_signedHashCode ret F n 8 [v0, v1, v2, v3, amClr v4, .int x] (st) h 0 0) := (amWp_dec rfl dJ10_signedHashCode_6 rfl).trans (amTrue (Nat.le_of_ble_eq_true rfl))
theorem wJ10_signedHashCode_8 {ret F n ls st h k z} : eJ10_signedHashCode ret F (n + 1) 8 ls st h k z = F 8 ls st h k z := amWp_cut rfl
theorem uJ10_signedHashCode_8 {ret F n h} {v0 v1 v2 v3 v4 st x} : sJ10_signedHashCode ret F n 8 [v0, v1, v2, v3, v4, .int x] (st) h 0 0 = (eJ10_signedHashCode ret F n 10 [v0, v1, v2, v3, v4, .int x] (.int x :: st) h 0 0) := (amWs_dec dJ10_signedHashCode_8 rfl).trans rfl
theorem wJ10_signedHashCode_10 {ret F n h} {v0 v1 v2 v3 v5 st x} : eJ10_signedHashCode ret F (n + 1) 10 [v0, v1, v2, v3, .int x, v5] (st) h 0 0 = (eJ10_signedHashCode ret F n 12 [v0, v1, v2, v3, .int x, v5] (.int x :: st) h 0 0) := (amWp_dec rfl dJ10_signedHashCode_10 rfl).trans rfl
theorem wJ10_signedHashCode_12 {ret F n h} {v0 v1 v2 v3 v4 v5 st y x} : eJ10_signedHashCode ret F (n + 1) 12 [v0, v1, v2, v3, v4, v5] (.int y :: .int x :: st) h 0 0 = ((y ≤ x → eJ10_signedHashCode ret F n 35 [v0, v1, v2, v3, v4, v5] (st) h 0 0) ∧ (¬ y ≤ x → eJ10_signedHashCode ret F n 15 [v0, v1, v2, v3, v4, v5] (st) h 0 0)) := (amWp_dec rfl dJ10_signedHashCode_12 rfl).trans rfl
theorem wJ10_signedHashCode_15 {ret F n h} {v0 v1 v2 v3 v4 v5 st} : eJ10_signedHashCode ret F (n + 1) 15 [v0, v1, v2, v3, v4, v5] (st) h 0 0 = (eJ10_signedHashCode ret F n 17 [v0, v1, v2, v3, v4, v5] (.int (nI 31) :: st) h 0 0) := (amWp_dec rfl dJ10_signedHashCode_15 rfl).trans rfl
theorem wJ10_signedHashCode_17 {ret F n h} {v1 v2 v3 v4 v5 st x} : eJ10_signedHashCode ret F (n + 1) 17 [.int x, v1, v2, v3, v4, v5] (st) h 0 0 = (eJ10_signedHashCode ret F n 18 [.int x, v1, v2, v3, v4, v5] (.int x :: st) h 0 0) := (amWp_dec rfl dJ10_signedHashCode_17 rfl).trans rfl
theorem wJ10_signedHashCode_18 {ret F n h} {v0 v1 v2 v3 v4 v5 st y x} : eJ10_signedHashCode ret F (n + 1) 18 [v0, v1, v2, v3, v4, v5] (.int y :: .int x :: st) h 0 0 = (eJ10_signedHashCode ret F n 19 [v0, v1, v2, v3, v4, v5] (.int (x * y) :: st) h 0 0) := (amWp_dec rfl dJ10_signedHashCode_18 rfl).trans rfl
theorem wJ10_signedHashCode_19 {ret F n h} {v0 v1 v2 v3 v4 v5 st} : eJ10_signedHashCode ret F (n + 1) 19 [v0, v1, v2, v3, v4, v5] (st) h 0 0 = (amIsR v1 ∧ eJ10_signedHashCode ret F n 20 [v0, v1, v2, v3, v4, v5] (v1 :: st) h 0 0) := (amWp_dec rfl dJ10_signedHashCode_19 rfl).trans rfl
theorem wJ10_signedHashCode_20 {ret F n h} {v0 v1 v2 v3 v4 st x} : eJ10_signedHashCode ret F (n + 1) 20 [v0, v1, v2, v3, v4, .int x] (st) h 0 0 = (eJ10_signedHashCode ret F n 22 [v0, v1, v2, v3, v4, .int x] (.int x :: st) h 0 0) := (amWp_dec rfl dJ10_signedHashCode_20 rfl).trans rfl
theorem wJ10_signedHashCode_22 {ret F n h} {v0 v1 v2 v3 v4 v5 st x a} : eJ10_signedHashCode ret F (n + 1) 22 [v0, v1, v2, v3, v4, v5] (.int x :: .ref a :: st) h 0 0 = ((h.1 a).1 = 2 ∧ vp_in x (h.1 a).2 ∧ eJ10_signedHashCode ret F n 23 [v0, v1, v2, v3, v4, v5] (.int (h.2.1 a x.toNatClampNeg) :: st) h 0 0) := (amWp_dec rfl dJ10_signedHashCode_22 rfl).trans rfl
theorem wJ10_signedHashCode_23 {ret F n h} {v0 v1 v2 v3 v4 v5 st} : eJ10_signedHashCode ret F (n + 1) 23 [v0, v1, v2, v3, v4, v5] (st) h 0 0 = (eJ10_signedHashCode ret F n 26 [v0, v1, v2, v3, v4, v5] (.int (nI 255) :: st) h 0 0) := (amWp_dec rfl dJ10_signedHashCode_23 rfl).trans rfl
theorem wJ10_signedHashCode_26 {ret F n h} {v0 v1 v2 v3 v4 v5 st y x} : eJ10_signedHashCode ret F (n + 1) 26 [v0, v1, v2, v3, v4, v5] (.int y :: .int x :: st) h 0 0 = (eJ10_signedHashCode ret F n 27 [v0, v1, v2, v3, v4, v5] (.int (x &&& y) :: st) h 0 0) := (amWp_dec rfl dJ10_signedHashCode_26 rfl).trans rfl
theorem wJ10_signedHashCode_27 {ret F n h} {v0 v1 v2 v3 v4 v5 st y x} : eJ10_signedHashCode ret F (n + 1) 27 [v0, v1, v2, v3, v4, v5] (.int y :: .int x :: st) h 0 0 = (eJ10_signedHashCode ret F n 28 [v0, v1, v2, v3, v4, v5] (.int (x + y) :: st) h 0 0) := (amWp_dec rfl dJ10_signedHashCode_27 rfl).trans rfl
theorem wJ10_signedHashCode_28 {ret F n h} {v0 v1 v2 v3 v4 v5 st x} : eJ10_signedHashCode ret F (n + 1) 28 [v0, v1, v2, v3, v4, v5] (.int x :: st) h 0 0 = (eJ10_signedHashCode ret F n 29 [.int x, v1, v2, v3, v4, v5] (st) h 0 0) := (amWp_dec rfl dJ10_signedHashCode_28 rfl).trans (amTrue (Nat.le_of_ble_eq_true rfl))
theorem wJ10_signedHashCode_29 {ret F n h} {v0 v1 v2 v3 v4 st x} : eJ10_signedHashCode ret F (n + 1) 29 [v0, v1, v2, v3, v4, .int x] (st) h 0 0 = (eJ10_signedHashCode ret F n 32 [v0, v1, v2, v3, amClr v4, .int (x + nI 1)] (st) h 0 0) := (amWp_dec rfl dJ10_signedHashCode_29 rfl).trans rfl
theorem wJ10_signedHashCode_32 {ret F n h} {v0 v1 v2 v3 v4 v5 st} : eJ10_signedHashCode ret F (n + 1) 32 [v0, v1, v2, v3, v4, v5] (st) h 0 0 = (eJ10_signedHashCode ret F n 8 [v0, v1, v2, v3, v4, v5] (st) h 0 0) := (amWp_dec rfl dJ10_signedHashCode_32 rfl).trans rfl
theorem wJ10_signedHashCode_35 {ret F n h} {v1 v2 v3 v4 v5 st x} : eJ10_signedHashCode ret F (n + 1) 35 [.int x, v1, v2, v3, v4, v5] (st) h 0 0 = (eJ10_signedHashCode ret F n 36 [.int x, v1, v2, v3, v4, v5] (.int x :: st) h 0 0) := (amWp_dec rfl dJ10_signedHashCode_35 rfl).trans rfl
theorem wJ10_signedHashCode_36 {ret F n h} {v0 v1 v2 v3 v4 v5 x} : eJ10_signedHashCode ret F (n + 1) 36 [v0, v1, v2, v3, v4, v5] ([.int x]) h 0 0 = (ret (some (.int x)) h 0 0) := (amWp_dec rfl dJ10_signedHashCode_36 rfl).trans (amTrue ⟨_, rfl, rfl⟩)
theorem evJ10_signedHashCode (l : Launch) (G : amG) : ∀ pc S i sz, amLk rJ10_signedHashCode pc = some S → decode cJ10_signedHashCode pc = .ok (i, sz) → amSiteP pc G l yJ10_signedHashCode.cls yJ10_signedHashCode.name yJ10_signedHashCode.desc (amRm 1 0 0) i sz S.1 S.2.1 S.2.2.1 S.2.2.2 := amLk_ok (by
  exact fun _ h => absurd h List.not_mem_nil)
theorem goJ10_signedHashCode {ret F} (hF : amCld cJ10_signedHashCode kJ10_signedHashCode (amLk rJ10_signedHashCode) (some .int) 0 0 ret F) (n : Nat) {pc ls st h k z} (q : sJ10_signedHashCode ret F n pc ls st h k z) : F pc ls st h k z := hF.1 n pc ls st h k z q
theorem metJ10_signedHashCode (l : Launch) (G : amG) : amMet l G yJ10_signedHashCode (ws_ yJ10_signedHashCode cJ10_signedHashCode 6 (some .int)) 1 0 0 tJ10_signedHashCode := by
  refine amMet_of (cut := kJ10_signedHashCode) (by decide +kernel) (evJ10_signedHashCode l G) ?_
  intro as h K hT
  match as, hT with
  | [.int x, .ref a, .int f0, .int n0], ⟨t, ⟨b1, b2, b3, b4⟩, e1, e2, hK⟩ =>
  refine ⟨Nat.le_of_ble_eq_true rfl, fun F hF => ?_⟩
  show F 0 [.int x, .ref a, .int f0, .int n0, .retAddr 0, .retAddr 0] [] h 0 0
  obtain ⟨a, rfl⟩ : ∃ i : Nat, i = a := ⟨_, rfl⟩
  subst e1 e2
  have loop : ∀ u p y, p + u = t.length → hsF y (t.drop p) = hsF x t → F 8 [.int y, .ref a, .int (nI 0), .int (nI t.length), .int (nI t.length), .int (nI p)] [] h 0 0 := by
    intro u
    induction u with
    | zero =>
      intro p y e q
      have e : p = t.length := by omega
      subst e
      rw [List.drop_length] at q
      have q : y = hsF x t := q
      refine goJ10_signedHashCode hF 40 ?_
      simp (disch := omega) only [wJ10_signedHashCode_0, uJ10_signedHashCode_0, wJ10_signedHashCode_1, wJ10_signedHashCode_2, wJ10_signedHashCode_3, wJ10_signedHashCode_5, wJ10_signedHashCode_6, wJ10_signedHashCode_8, uJ10_signedHashCode_8, wJ10_signedHashCode_10, wJ10_signedHashCode_12, wJ10_signedHashCode_15, wJ10_signedHashCode_17, wJ10_signedHashCode_18, wJ10_signedHashCode_19, wJ10_signedHashCode_20, wJ10_signedHashCode_22, wJ10_signedHashCode_23, wJ10_signedHashCode_26, wJ10_signedHashCode_27, wJ10_signedHashCode_28, wJ10_signedHashCode_29, wJ10_signedHashCode_32, wJ10_signedHashCode_35, wJ10_signedHashCode_36, amSI_1, amSI_2, amSI_3, amSI_s, amU_at, amIsR_ref, amIsR_null, amIsR_rf, amRf_some, amRf_none, amClr_int, amClr_ref, amClr_null, amClr_long, amClr_ra, amClr_rf, amFit_int, amFit_oref, amFit_aref, amFit_onull, amFit_anull, amOptSome, amOptNone, List.cons_append, List.nil_append, true_and, and_true, true_implies, not_true_eq_false, not_false_eq_true, false_implies, and_self, Nat.add_zero, Nat.zero_add, ne_eq, Prod.mk.injEq, amC01_0, amC01_1, amC01_nb, amNb0, amNb1, amTcpI_d, Nat.reduceLeDiff, Nat.reduceAdd, Nat.reduceSub, Nat.reduceEqDiff, Nat.le_refl, amN0le, amLeI, amLtI, amEqI, amLe0, amGt0, amEq0, amNotPosI, amGe0, amVI, amCl_nI, amAdd, amSub, amMul, b1]
      rw [q]
      exact amRet.of (by decide) (by decide) hK
    | succ u ih =>
      intro p y e q
      have hp : p < t.length := by omega
      rw [drop_cons hp] at q
      have nx := ih (p + 1) _ (by omega) q
      have c' : (t.length ≤ p) = False := eq_false (by omega)
      have f1 := (chrF _ (b3 _ (getD_mem hp))).1
      have bp := b2 p hp
      refine goJ10_signedHashCode hF 40 ?_
      simp (disch := omega) only [wJ10_signedHashCode_0, uJ10_signedHashCode_0, wJ10_signedHashCode_1, wJ10_signedHashCode_2, wJ10_signedHashCode_3, wJ10_signedHashCode_5, wJ10_signedHashCode_6, wJ10_signedHashCode_8, uJ10_signedHashCode_8, wJ10_signedHashCode_10, wJ10_signedHashCode_12, wJ10_signedHashCode_15, wJ10_signedHashCode_17, wJ10_signedHashCode_18, wJ10_signedHashCode_19, wJ10_signedHashCode_20, wJ10_signedHashCode_22, wJ10_signedHashCode_23, wJ10_signedHashCode_26, wJ10_signedHashCode_27, wJ10_signedHashCode_28, wJ10_signedHashCode_29, wJ10_signedHashCode_32, wJ10_signedHashCode_35, wJ10_signedHashCode_36, amSI_1, amSI_2, amSI_3, amSI_s, amU_at, amIsR_ref, amIsR_null, amIsR_rf, amRf_some, amRf_none, amClr_int, amClr_ref, amClr_null, amClr_long, amClr_ra, amClr_rf, amFit_int, amFit_oref, amFit_aref, amFit_onull, amFit_anull, amOptSome, amOptNone, List.cons_append, List.nil_append, true_and, and_true, true_implies, not_true_eq_false, not_false_eq_true, false_implies, and_self, Nat.add_zero, Nat.zero_add, ne_eq, Prod.mk.injEq, amC01_0, amC01_1, amC01_nb, amNb0, amNb1, amTcpI_d, Nat.reduceLeDiff, Nat.reduceAdd, Nat.reduceSub, Nat.reduceEqDiff, Nat.le_refl, amN0le, amLeI, amLtI, amEqI, amLe0, amGt0, amEq0, amNotPosI, amGe0, amVI, amCl_nI, amAdd, amSub, amMul, b1, c', bp, f1]
      exact nx
  have nx := loop t.length 0 x (by omega) rfl
  refine goJ10_signedHashCode hF 40 ?_
  simp (disch := omega) only [wJ10_signedHashCode_0, uJ10_signedHashCode_0, wJ10_signedHashCode_1, wJ10_signedHashCode_2, wJ10_signedHashCode_3, wJ10_signedHashCode_5, wJ10_signedHashCode_6, wJ10_signedHashCode_8, uJ10_signedHashCode_8, wJ10_signedHashCode_10, wJ10_signedHashCode_12, wJ10_signedHashCode_15, wJ10_signedHashCode_17, wJ10_signedHashCode_18, wJ10_signedHashCode_19, wJ10_signedHashCode_20, wJ10_signedHashCode_22, wJ10_signedHashCode_23, wJ10_signedHashCode_26, wJ10_signedHashCode_27, wJ10_signedHashCode_28, wJ10_signedHashCode_29, wJ10_signedHashCode_32, wJ10_signedHashCode_35, wJ10_signedHashCode_36, amSI_1, amSI_2, amSI_3, amSI_s, amU_at, amIsR_ref, amIsR_null, amIsR_rf, amRf_some, amRf_none, amClr_int, amClr_ref, amClr_null, amClr_long, amClr_ra, amClr_rf, amFit_int, amFit_oref, amFit_aref, amFit_onull, amFit_anull, amOptSome, amOptNone, List.cons_append, List.nil_append, true_and, and_true, true_implies, not_true_eq_false, not_false_eq_true, false_implies, and_self, Nat.add_zero, Nat.zero_add, ne_eq, Prod.mk.injEq, amC01_0, amC01_1, amC01_nb, amNb0, amNb1, amTcpI_d, Nat.reduceLeDiff, Nat.reduceAdd, Nat.reduceSub, Nat.reduceEqDiff, Nat.le_refl, amN0le, amLeI, amLtI, amEqI, amLe0, amGt0, amEq0, amNotPosI, amGe0, amVI, amCl_nI, amAdd, amSub, amMul, b1, Nat.zero_add]
  exact nx
theorem tJ10_signedHashCode_d {x f0 n0 : Int32} {a : Nat} {h : amH} {K : Option Value → amH → Prop} : tJ10_signedHashCode [.int x, .ref a, .int f0, .int n0] h K = ∃ t : List Nat, ByIs h a t ∧ f0 = nI 0 ∧ n0 = nI t.length ∧ K (some (.int (hsF x t))) h := rfl
def tJ10_vectorizedHashCode : amT := fun as h K => match as with
  | [.ref a, .int f0, .int n0, .int x, .int k] => ∃ t : List Nat, ByIs h a t ∧ f0 = nI 0 ∧ n0 = nI t.length ∧ k = nI 4 ∧ K (some (.int (hsF x t))) h
  | _ => False
/-! jdk/internal/util/ArraysSupport.vectorizedHashCode(Ljava/lang/Object;IIII)I -/
def kJ10_vectorizedHashCode : Nat → Bool := fun pc => false
def rJ10_vectorizedHashCode : List (Nat × amS) := [(46, 1, 0, 0, amTcst 2), (51, 4, 0, 0, tJ10_signedHashCode)]
def eJ10_vectorizedHashCode (ret : Option Value → amH → Nat → Nat → Prop) (F : amX) : Nat → amX := amWp cJ10_vectorizedHashCode kJ10_vectorizedHashCode (amLk rJ10_vectorizedHashCode) (some .int) 0 0 ret F
def sJ10_vectorizedHashCode (ret : Option Value → amH → Nat → Nat → Prop) (F : amX) : Nat → amX := amWs cJ10_vectorizedHashCode kJ10_vectorizedHashCode (amLk rJ10_vectorizedHashCode) (some .int) 0 0 ret F
theorem wJ10_vectorizedHashCode_0 {ret F n h} {v0 v1 v2 v3 st x} : eJ10_vectorizedHashCode ret F (n + 1) 0 [v0, v1, v2, v3, .int x] (st) h 0 0 = (eJ10_vectorizedHashCode ret F n 2 [v0, v1, v2, v3, .int x] (.int x :: st) h 0 0) := (amWp_dec rfl dJ10_vectorizedHashCode_0 rfl).trans rfl
theorem uJ10_vectorizedHashCode_0 {ret F n h} {v0 v1 v2 v3 st x} : sJ10_vectorizedHashCode ret F n 0 [v0, v1, v2, v3, .int x] (st) h 0 0 = (eJ10_vectorizedHashCode ret F n 2 [v0, v1, v2, v3, .int x] (.int x :: st) h 0 0) := (amWs_dec dJ10_vectorizedHashCode_0 rfl).trans rfl
theorem wJ10_vectorizedHashCode_2 {ret F n h} {v0 v1 v2 v3 v4 st x} : eJ10_vectorizedHashCode ret F (n + 1) 2 [v0, v1, v2, v3, v4] (.int x :: st) h 0 0 = ((x = nI 4 → eJ10_vectorizedHashCode ret F n 44 [v0, v1, v2, v3, v4] (st) h 0 0) ∧ (¬ x = nI 4 → (x = nI 5 → eJ10_vectorizedHashCode ret F n 57 [v0, v1, v2, v3, v4] (st) h 0 0) ∧ (¬ x = nI 5 → (x = nI 6 → eJ10_vectorizedHashCode ret F n 129 [v0, v1, v2, v3, v4] (st) h 0 0) ∧ (¬ x = nI 6 → (x = nI 7 → eJ10_vectorizedHashCode ret F n 129 [v0, v1, v2, v3, v4] (st) h 0 0) ∧ (¬ x = nI 7 → (x = nI 8 → eJ10_vectorizedHashCode ret F n 90 [v0, v1, v2, v3, v4] (st) h 0 0) ∧ (¬ x = nI 8 → (x = nI 9 → eJ10_vectorizedHashCode ret F n 103 [v0, v1, v2, v3, v4] (st) h 0 0) ∧ (¬ x = nI 9 → (x = nI 10 → eJ10_vectorizedHashCode ret F n 116 [v0, v1, v2, v3, v4] (st) h 0 0) ∧ (¬ x = nI 10 → eJ10_vectorizedHashCode ret F n 129 [v0, v1, v2, v3, v4] (st) h 0 0)))))))) := (amWp_dec rfl dJ10_vectorizedHashCode_2 rfl).trans (amS2 (by decide +kernel) (by decide +kernel))
theorem wJ10_vectorizedHashCode_44 {ret F n h} {v0 v1 v2 v4 st x} : eJ10_vectorizedHashCode ret F (n + 1) 44 [v0, v1, v2, .int x, v4] (st) h 0 0 = (eJ10_vectorizedHashCode ret F n 45 [v0, v1, v2, .int x, v4] (.int x :: st) h 0 0) := (amWp_dec rfl dJ10_vectorizedHashCode_44 rfl).trans rfl
theorem wJ10_vectorizedHashCode_45 {ret F n h} {v0 v1 v2 v3 v4 st} : eJ10_vectorizedHashCode ret F (n + 1) 45 [v0, v1, v2, v3, v4] (st) h 0 0 = (amIsR v0 ∧ eJ10_vectorizedHashCode ret F n 46 [v0, v1, v2, v3, v4] (v0 :: st) h 0 0) := (amWp_dec rfl dJ10_vectorizedHashCode_45 rfl).trans rfl
theorem wJ10_vectorizedHashCode_46 {ret F n h} {v0 v1 v2 v3 v4 r0 a} : eJ10_vectorizedHashCode ret F (n + 1) 46 [v0, v1, v2, v3, v4] (.ref a :: r0 :: []) h 0 0 = ((h.1 a).1 = 2 ∧ eJ10_vectorizedHashCode ret F n 49 [v0, v1, v2, v3, v4] (.ref a :: r0 :: []) h 0 0) := (amWp_dec rfl dJ10_vectorizedHashCode_46 rfl).trans (amS4 (Nat.le_of_ble_eq_true rfl) (Nat.le_of_ble_eq_true rfl) (Nat.le_of_ble_eq_true rfl) (Nat.le_of_ble_eq_true rfl))
theorem wJ10_vectorizedHashCode_49 {ret F n h} {v0 v2 v3 v4 st x} : eJ10_vectorizedHashCode ret F (n + 1) 49 [v0, .int x, v2, v3, v4] (st) h 0 0 = (eJ10_vectorizedHashCode ret F n 50 [v0, .int x, v2, v3, v4] (.int x :: st) h 0 0) := (amWp_dec rfl dJ10_vectorizedHashCode_49 rfl).trans rfl
theorem wJ10_vectorizedHashCode_50 {ret F n h} {v0 v1 v3 v4 st x} : eJ10_vectorizedHashCode ret F (n + 1) 50 [v0, v1, .int x, v3, v4] (st) h 0 0 = (eJ10_vectorizedHashCode ret F n 51 [v0, v1, .int x, v3, v4] (.int x :: st) h 0 0) := (amWp_dec rfl dJ10_vectorizedHashCode_50 rfl).trans rfl
theorem wJ10_vectorizedHashCode_51 {ret F n h} {v0 v1 v2 v3 v4 x3 x2 x1 x0} : eJ10_vectorizedHashCode ret F (n + 1) 51 [v0, v1, v2, v3, v4] (.int x3 :: .int x2 :: .ref x1 :: .int x0 :: []) h 0 0 = (tJ10_signedHashCode [.int x0, .ref x1, .int x2, .int x3] h (fun v h => eJ10_vectorizedHashCode ret F n 54 [v0, v1, v2, v3, v4] (v.toList ++ ([])) h 0 0)) := (amWp_dec rfl dJ10_vectorizedHashCode_51 rfl).trans (amS4 (Nat.le_of_ble_eq_true rfl) (Nat.le_of_ble_eq_true rfl) (Nat.le_of_ble_eq_true rfl) (Nat.le_of_ble_eq_true rfl))
theorem wJ10_vectorizedHashCode_54 {ret F n h} {v0 v1 v2 v3 v4 st} : eJ10_vectorizedHashCode ret F (n + 1) 54 [v0, v1, v2, v3, v4] (st) h 0 0 = (eJ10_vectorizedHashCode ret F n 157 [v0, v1, v2, v3, v4] (st) h 0 0) := (amWp_dec rfl dJ10_vectorizedHashCode_54 rfl).trans rfl
theorem wJ10_vectorizedHashCode_157 {ret F n h} {v0 v1 v2 v3 v4 x} : eJ10_vectorizedHashCode ret F (n + 1) 157 [v0, v1, v2, v3, v4] ([.int x]) h 0 0 = (ret (some (.int x)) h 0 0) := (amWp_dec rfl dJ10_vectorizedHashCode_157 rfl).trans (amTrue ⟨_, rfl, rfl⟩)
theorem evJ10_vectorizedHashCode (l : Launch) (G : amG) : ∀ pc S i sz, amLk rJ10_vectorizedHashCode pc = some S → decode cJ10_vectorizedHashCode pc = .ok (i, sz) → amSiteP pc G l yJ10_vectorizedHashCode.cls yJ10_vectorizedHashCode.name yJ10_vectorizedHashCode.desc (amRm 2 0 0) i sz S.1 S.2.1 S.2.2.1 S.2.2.2 := amLk_ok (by
  refine List.forall_mem_cons.mpr ⟨⟨_, _, dJ10_vectorizedHashCode_46, amSite.P (amSiteCst (by decide) q1075)⟩, ?_⟩
  refine List.forall_mem_cons.mpr ⟨⟨_, _, dJ10_vectorizedHashCode_51, amSite.P (amSiteS (metJ10_signedHashCode l G) rfl (by decide) (by decide) (lw_S q1076 q1077 q106 q1078) ⟨by decide +kernel, by decide +kernel, by decide +kernel⟩)⟩, ?_⟩
  exact fun _ h => absurd h List.not_mem_nil)
theorem goJ10_vectorizedHashCode {ret F} (hF : amCld cJ10_vectorizedHashCode kJ10_vectorizedHashCode (amLk rJ10_vectorizedHashCode) (some .int) 0 0 ret F) (n : Nat) {pc ls st h k z} (q : sJ10_vectorizedHashCode ret F n pc ls st h k z) : F pc ls st h k z := hF.1 n pc ls st h k z q
theorem metJ10_vectorizedHashCode (l : Launch) (G : amG) : amMet l G yJ10_vectorizedHashCode (ws_ yJ10_vectorizedHashCode cJ10_vectorizedHashCode 5 (some .int)) 2 0 0 tJ10_vectorizedHashCode := by
  refine amMet_of (cut := kJ10_vectorizedHashCode) (by decide +kernel) (evJ10_vectorizedHashCode l G) ?_
  intro as h K hT
  match as, hT with
  | [.ref a, .int f0, .int n0, .int x, .int k], ⟨t, hB, e1, e2, e3, hK⟩ =>
  refine ⟨Nat.le_of_ble_eq_true rfl, fun F hF => ?_⟩
  show F 0 [.ref a, .int f0, .int n0, .int x, .int k] [] h 0 0
  obtain ⟨a, rfl⟩ : ∃ i : Nat, i = a := ⟨_, rfl⟩
  subst e1 e2 e3
  have hB1 := hB.1
  refine goJ10_vectorizedHashCode hF 40 ?_
  simp (disch := omega) only [wJ10_vectorizedHashCode_0, uJ10_vectorizedHashCode_0, wJ10_vectorizedHashCode_2, wJ10_vectorizedHashCode_44, wJ10_vectorizedHashCode_45, wJ10_vectorizedHashCode_46, wJ10_vectorizedHashCode_49, wJ10_vectorizedHashCode_50, wJ10_vectorizedHashCode_51, wJ10_vectorizedHashCode_54, wJ10_vectorizedHashCode_157, amSI_1, amSI_2, amSI_3, amSI_s, amU_at, amIsR_ref, amIsR_null, amIsR_rf, amRf_some, amRf_none, amClr_int, amClr_ref, amClr_null, amClr_long, amClr_ra, amClr_rf, amFit_int, amFit_oref, amFit_aref, amFit_onull, amFit_anull, amOptSome, amOptNone, List.cons_append, List.nil_append, true_and, and_true, true_implies, not_true_eq_false, not_false_eq_true, false_implies, and_self, Nat.add_zero, Nat.zero_add, ne_eq, Prod.mk.injEq, amC01_0, amC01_1, amC01_nb, amNb0, amNb1, amTcpI_d, Nat.reduceLeDiff, Nat.reduceAdd, Nat.reduceSub, Nat.reduceEqDiff, Nat.le_refl, amN0le, amLeI, amLtI, amEqI, amLe0, amGt0, amEq0, amNotPosI, amGe0, amVI, amCl_nI, amAdd, amSub, amMul, hB1]
  rw [tJ10_signedHashCode_d]
  refine ⟨t, hB, rfl, rfl, ?_⟩
  simp (disch := omega) only [wJ10_vectorizedHashCode_0, uJ10_vectorizedHashCode_0, wJ10_vectorizedHashCode_2, wJ10_vectorizedHashCode_44, wJ10_vectorizedHashCode_45, wJ10_vectorizedHashCode_46, wJ10_vectorizedHashCode_49, wJ10_vectorizedHashCode_50, wJ10_vectorizedHashCode_51, wJ10_vectorizedHashCode_54, wJ10_vectorizedHashCode_157, amSI_1, amSI_2, amSI_3, amSI_s, amU_at, amIsR_ref, amIsR_null, amIsR_rf, amRf_some, amRf_none, amClr_int, amClr_ref, amClr_null, amClr_long, amClr_ra, amClr_rf, amFit_int, amFit_oref, amFit_aref, amFit_onull, amFit_anull, amOptSome, amOptNone, List.cons_append, List.nil_append, true_and, and_true, true_implies, not_true_eq_false, not_false_eq_true, false_implies, and_self, Nat.add_zero, Nat.zero_add, ne_eq, Prod.mk.injEq, amC01_0, amC01_1, amC01_nb, amNb0, amNb1, amTcpI_d, Nat.reduceLeDiff, Nat.reduceAdd, Nat.reduceSub, Nat.reduceEqDiff, Nat.le_refl, amN0le, amLeI, amLtI, amEqI, amLe0, amGt0, amEq0, amNotPosI, amGe0, amVI, amCl_nI, amAdd, amSub, amMul]
  exact amRet.of (by decide) (by decide) hK
theorem tJ10_vectorizedHashCode_d {x f0 n0 k : Int32} {a : Nat} {h : amH} {K : Option Value → amH → Prop} : tJ10_vectorizedHashCode [.ref a, .int f0, .int n0, .int x, .int k] h K = ∃ t : List Nat, ByIs h a t ∧ f0 = nI 0 ∧ n0 = nI t.length ∧ k = nI 4 ∧ K (some (.int (hsF x t))) h := rfl
def tJ13_hashCode : amT := fun as h K => match as with
  | [.ref a] => ∃ t : List Nat, ByIs h a t ∧ K (some (.int (hsF (nI 0) t))) h
  | _ => False
/-! java/lang/StringLatin1.hashCode([B)I -/
def kJ13_hashCode : Nat → Bool := fun pc => false
def rJ13_hashCode : List (Nat × amS) := [(48, 5, 0, 0, tJ10_vectorizedHashCode)]
def eJ13_hashCode (ret : Option Value → amH → Nat → Nat → Prop) (F : amX) : Nat → amX := amWp cJ13_hashCode kJ13_hashCode (amLk rJ13_hashCode) (some .int) 0 0 ret F
def sJ13_hashCode (ret : Option Value → amH → Nat → Nat → Prop) (F : amX) : Nat → amX := amWs cJ13_hashCode kJ13_hashCode (amLk rJ13_hashCode) (some .int) 0 0 ret F
theorem wJ13_hashCode_0 {ret F n h} {v0 st} : eJ13_hashCode ret F (n + 1) 0 [v0] (st) h 0 0 = (amIsR v0 ∧ eJ13_hashCode ret F n 1 [v0] (v0 :: st) h 0 0) := (amWp_dec rfl dJ13_hashCode_0 rfl).trans rfl
theorem uJ13_hashCode_0 {ret F n h} {v0 st} : sJ13_hashCode ret F n 0 [v0] (st) h 0 0 = (amIsR v0 ∧ eJ13_hashCode ret F n 1 [v0] (v0 :: st) h 0 0) := (amWs_dec dJ13_hashCode_0 rfl).trans rfl
theorem wJ13_hashCode_1 {ret F n h} {v0 st a} : eJ13_hashCode ret F (n + 1) 1 [v0] (.ref a :: st) h 0 0 = (1 ≤ (h.1 a).1 ∧ (h.1 a).1 ≤ 8 ∧ eJ13_hashCode ret F n 2 [v0] (.int (nI (h.1 a).2) :: st) h 0 0) := (amWp_dec rfl dJ13_hashCode_1 rfl).trans rfl
theorem wJ13_hashCode_2 {ret F n h} {v0 st x} : eJ13_hashCode ret F (n + 1) 2 [v0] (.int x :: st) h 0 0 = ((x = nI 0 → eJ13_hashCode ret F n 28 [v0] (st) h 0 0) ∧ (¬ x = nI 0 → (x = nI 1 → eJ13_hashCode ret F n 32 [v0] (st) h 0 0) ∧ (¬ x = nI 1 → eJ13_hashCode ret F n 42 [v0] (st) h 0 0))) := (amWp_dec rfl dJ13_hashCode_2 rfl).trans (amS2 (by decide +kernel) (by decide +kernel))
theorem wJ13_hashCode_28 {ret F n h} {v0 st} : eJ13_hashCode ret F (n + 1) 28 [v0] (st) h 0 0 = (eJ13_hashCode ret F n 29 [v0] (.int (nI 0) :: st) h 0 0) := (amWp_dec rfl dJ13_hashCode_28 rfl).trans rfl
theorem wJ13_hashCode_29 {ret F n h} {v0 st} : eJ13_hashCode ret F (n + 1) 29 [v0] (st) h 0 0 = (eJ13_hashCode ret F n 51 [v0] (st) h 0 0) := (amWp_dec rfl dJ13_hashCode_29 rfl).trans rfl
theorem wJ13_hashCode_32 {ret F n h} {v0 st} : eJ13_hashCode ret F (n + 1) 32 [v0] (st) h 0 0 = (amIsR v0 ∧ eJ13_hashCode ret F n 33 [v0] (v0 :: st) h 0 0) := (amWp_dec rfl dJ13_hashCode_32 rfl).trans rfl
theorem wJ13_hashCode_33 {ret F n h} {v0 st} : eJ13_hashCode ret F (n + 1) 33 [v0] (st) h 0 0 = (eJ13_hashCode ret F n 34 [v0] (.int (nI 0) :: st) h 0 0) := (amWp_dec rfl dJ13_hashCode_33 rfl).trans rfl
theorem wJ13_hashCode_34 {ret F n h} {v0 st x a} : eJ13_hashCode ret F (n + 1) 34 [v0] (.int x :: .ref a :: st) h 0 0 = ((h.1 a).1 = 2 ∧ vp_in x (h.1 a).2 ∧ eJ13_hashCode ret F n 35 [v0] (.int (h.2.1 a x.toNatClampNeg) :: st) h 0 0) := (amWp_dec rfl dJ13_hashCode_34 rfl).trans rfl
theorem wJ13_hashCode_35 {ret F n h} {v0 st} : eJ13_hashCode ret F (n + 1) 35 [v0] (st) h 0 0 = (eJ13_hashCode ret F n 38 [v0] (.int (nI 255) :: st) h 0 0) := (amWp_dec rfl dJ13_hashCode_35 rfl).trans rfl
theorem wJ13_hashCode_38 {ret F n h} {v0 st y x} : eJ13_hashCode ret F (n + 1) 38 [v0] (.int y :: .int x :: st) h 0 0 = (eJ13_hashCode ret F n 39 [v0] (.int (x &&& y) :: st) h 0 0) := (amWp_dec rfl dJ13_hashCode_38 rfl).trans rfl
theorem wJ13_hashCode_39 {ret F n h} {v0 st} : eJ13_hashCode ret F (n + 1) 39 [v0] (st) h 0 0 = (eJ13_hashCode ret F n 51 [v0] (st) h 0 0) := (amWp_dec rfl dJ13_hashCode_39 rfl).trans rfl
theorem wJ13_hashCode_42 {ret F n h} {v0 st} : eJ13_hashCode ret F (n + 1) 42 [v0] (st) h 0 0 = (amIsR v0 ∧ eJ13_hashCode ret F n 43 [v0] (v0 :: st) h 0 0) := (amWp_dec rfl dJ13_hashCode_42 rfl).trans rfl
theorem wJ13_hashCode_43 {ret F n h} {v0 st} : eJ13_hashCode ret F (n + 1) 43 [v0] (st) h 0 0 = (eJ13_hashCode ret F n 44 [v0] (.int (nI 0) :: st) h 0 0) := (amWp_dec rfl dJ13_hashCode_43 rfl).trans rfl
theorem wJ13_hashCode_44 {ret F n h} {v0 st} : eJ13_hashCode ret F (n + 1) 44 [v0] (st) h 0 0 = (amIsR v0 ∧ eJ13_hashCode ret F n 45 [v0] (v0 :: st) h 0 0) := (amWp_dec rfl dJ13_hashCode_44 rfl).trans rfl
theorem wJ13_hashCode_45 {ret F n h} {v0 st a} : eJ13_hashCode ret F (n + 1) 45 [v0] (.ref a :: st) h 0 0 = (1 ≤ (h.1 a).1 ∧ (h.1 a).1 ≤ 8 ∧ eJ13_hashCode ret F n 46 [v0] (.int (nI (h.1 a).2) :: st) h 0 0) := (amWp_dec rfl dJ13_hashCode_45 rfl).trans rfl
theorem wJ13_hashCode_46 {ret F n h} {v0 st} : eJ13_hashCode ret F (n + 1) 46 [v0] (st) h 0 0 = (eJ13_hashCode ret F n 47 [v0] (.int (nI 0) :: st) h 0 0) := (amWp_dec rfl dJ13_hashCode_46 rfl).trans rfl
theorem wJ13_hashCode_47 {ret F n h} {v0 st} : eJ13_hashCode ret F (n + 1) 47 [v0] (st) h 0 0 = (eJ13_hashCode ret F n 48 [v0] (.int (nI 4) :: st) h 0 0) := (amWp_dec rfl dJ13_hashCode_47 rfl).trans rfl
theorem wJ13_hashCode_48 {ret F n h} {v0 x4 x3 x2 x1 x0} : eJ13_hashCode ret F (n + 1) 48 [v0] (.int x4 :: .int x3 :: .int x2 :: .int x1 :: .ref x0 :: []) h 0 0 = (tJ10_vectorizedHashCode [.ref x0, .int x1, .int x2, .int x3, .int x4] h (fun v h => eJ13_hashCode ret F n 51 [v0] (v.toList ++ ([])) h 0 0)) := (amWp_dec rfl dJ13_hashCode_48 rfl).trans (amS4 (Nat.le_of_ble_eq_true rfl) (Nat.le_of_ble_eq_true rfl) (Nat.le_of_ble_eq_true rfl) (Nat.le_of_ble_eq_true rfl))
theorem wJ13_hashCode_51 {ret F n h} {v0 x} : eJ13_hashCode ret F (n + 1) 51 [v0] ([.int x]) h 0 0 = (ret (some (.int x)) h 0 0) := (amWp_dec rfl dJ13_hashCode_51 rfl).trans (amTrue ⟨_, rfl, rfl⟩)
theorem evJ13_hashCode (l : Launch) (G : amG) : ∀ pc S i sz, amLk rJ13_hashCode pc = some S → decode cJ13_hashCode pc = .ok (i, sz) → amSiteP pc G l yJ13_hashCode.cls yJ13_hashCode.name yJ13_hashCode.desc (amRm 3 0 0) i sz S.1 S.2.1 S.2.2.1 S.2.2.2 := amLk_ok (by
  refine List.forall_mem_cons.mpr ⟨⟨_, _, dJ13_hashCode_48, amSite.P (amSiteS (metJ10_vectorizedHashCode l G) rfl (by decide) (by decide) (lw_S q1072 q1073 q106 q1074) ⟨by decide +kernel, by decide +kernel, by decide +kernel⟩)⟩, ?_⟩
  exact fun _ h => absurd h List.not_mem_nil)
theorem goJ13_hashCode {ret F} (hF : amCld cJ13_hashCode kJ13_hashCode (amLk rJ13_hashCode) (some .int) 0 0 ret F) (n : Nat) {pc ls st h k z} (q : sJ13_hashCode ret F n pc ls st h k z) : F pc ls st h k z := hF.1 n pc ls st h k z q
theorem metJ13_hashCode (l : Launch) (G : amG) : amMet l G yJ13_hashCode (ws_ yJ13_hashCode cJ13_hashCode 1 (some .int)) 3 0 0 tJ13_hashCode := by
  refine amMet_of (cut := kJ13_hashCode) (by decide +kernel) (evJ13_hashCode l G) ?_
  intro as h K hT
  match as, hT with
  | [.ref a], ⟨t, hB, hK⟩ =>
  refine ⟨Nat.le_of_ble_eq_true rfl, fun F hF => ?_⟩
  show F 0 [.ref a] [] h 0 0
  obtain ⟨a, rfl⟩ : ∃ i : Nat, i = a := ⟨_, rfl⟩
  obtain ⟨b1, b2, b3, b4⟩ := id hB
  by_cases z0 : t.length = 0
  · have : t = [] := List.eq_nil_of_length_eq_zero z0
    subst this
    refine goJ13_hashCode hF 40 ?_
    simp (disch := omega) only [wJ13_hashCode_0, uJ13_hashCode_0, wJ13_hashCode_1, wJ13_hashCode_2, wJ13_hashCode_28, wJ13_hashCode_29, wJ13_hashCode_32, wJ13_hashCode_33, wJ13_hashCode_34, wJ13_hashCode_35, wJ13_hashCode_38, wJ13_hashCode_39, wJ13_hashCode_42, wJ13_hashCode_43, wJ13_hashCode_44, wJ13_hashCode_45, wJ13_hashCode_46, wJ13_hashCode_47, wJ13_hashCode_48, wJ13_hashCode_51, amSI_1, amSI_2, amSI_3, amSI_s, amU_at, amIsR_ref, amIsR_null, amIsR_rf, amRf_some, amRf_none, amClr_int, amClr_ref, amClr_null, amClr_long, amClr_ra, amClr_rf, amFit_int, amFit_oref, amFit_aref, amFit_onull, amFit_anull, amOptSome, amOptNone, List.cons_append, List.nil_append, true_and, and_true, true_implies, not_true_eq_false, not_false_eq_true, false_implies, and_self, Nat.add_zero, Nat.zero_add, ne_eq, Prod.mk.injEq, amC01_0, amC01_1, amC01_nb, amNb0, amNb1, amTcpI_d, Nat.reduceLeDiff, Nat.reduceAdd, Nat.reduceSub, Nat.reduceEqDiff, Nat.le_refl, amN0le, amLeI, amLtI, amEqI, amLe0, amGt0, amEq0, amNotPosI, amGe0, amVI, amCl_nI, amAdd, amSub, amMul, b1, List.length_nil]
    exact amRet.of (by decide) (by decide) hK
  · by_cases z1 : t.length = 1
    · obtain ⟨c, rfl⟩ : ∃ c, t = [c] := List.length_eq_one_iff.mp z1
      have bp : h.2.1 a 0 = nI c := b2 0 (by simp)
      have f1 := (chrF c (b3 c (by simp))).1
      have hK : K (some (.int (nI 31 * nI 0 + nI c))) h := hK
      have e : nI 31 * nI 0 + nI c = nI c := by rw [show nI 31 * nI 0 = 0 by decide, Int32.zero_add]
      rw [e] at hK
      refine goJ13_hashCode hF 40 ?_
      simp (disch := omega) only [wJ13_hashCode_0, uJ13_hashCode_0, wJ13_hashCode_1, wJ13_hashCode_2, wJ13_hashCode_28, wJ13_hashCode_29, wJ13_hashCode_32, wJ13_hashCode_33, wJ13_hashCode_34, wJ13_hashCode_35, wJ13_hashCode_38, wJ13_hashCode_39, wJ13_hashCode_42, wJ13_hashCode_43, wJ13_hashCode_44, wJ13_hashCode_45, wJ13_hashCode_46, wJ13_hashCode_47, wJ13_hashCode_48, wJ13_hashCode_51, amSI_1, amSI_2, amSI_3, amSI_s, amU_at, amIsR_ref, amIsR_null, amIsR_rf, amRf_some, amRf_none, amClr_int, amClr_ref, amClr_null, amClr_long, amClr_ra, amClr_rf, amFit_int, amFit_oref, amFit_aref, amFit_onull, amFit_anull, amOptSome, amOptNone, List.cons_append, List.nil_append, true_and, and_true, true_implies, not_true_eq_false, not_false_eq_true, false_implies, and_self, Nat.add_zero, Nat.zero_add, ne_eq, Prod.mk.injEq, amC01_0, amC01_1, amC01_nb, amNb0, amNb1, amTcpI_d, Nat.reduceLeDiff, Nat.reduceAdd, Nat.reduceSub, Nat.reduceEqDiff, Nat.le_refl, amN0le, amLeI, amLtI, amEqI, amLe0, amGt0, amEq0, amNotPosI, amGe0, amVI, amCl_nI, amAdd, amSub, amMul, b1, List.length_singleton, List.length_cons, List.length_nil, bp, f1]
      exact amRet.of (by decide) (by decide) hK
    · have i0 : (nI t.length = nI 0) = False := eq_false (fun e => z0 ((nI_eq (by omega) (by decide)).mp e))
      have i1 : (nI t.length = nI 1) = False := eq_false (fun e => z1 ((nI_eq (by omega) (by decide)).mp e))
      refine goJ13_hashCode hF 40 ?_
      simp (disch := omega) only [wJ13_hashCode_0, uJ13_hashCode_0, wJ13_hashCode_1, wJ13_hashCode_2, wJ13_hashCode_28, wJ13_hashCode_29, wJ13_hashCode_32, wJ13_hashCode_33, wJ13_hashCode_34, wJ13_hashCode_35, wJ13_hashCode_38, wJ13_hashCode_39, wJ13_hashCode_42, wJ13_hashCode_43, wJ13_hashCode_44, wJ13_hashCode_45, wJ13_hashCode_46, wJ13_hashCode_47, wJ13_hashCode_48, wJ13_hashCode_51, amSI_1, amSI_2, amSI_3, amSI_s, amU_at, amIsR_ref, amIsR_null, amIsR_rf, amRf_some, amRf_none, amClr_int, amClr_ref, amClr_null, amClr_long, amClr_ra, amClr_rf, amFit_int, amFit_oref, amFit_aref, amFit_onull, amFit_anull, amOptSome, amOptNone, List.cons_append, List.nil_append, true_and, and_true, true_implies, not_true_eq_false, not_false_eq_true, false_implies, and_self, Nat.add_zero, Nat.zero_add, ne_eq, Prod.mk.injEq, amC01_0, amC01_1, amC01_nb, amNb0, amNb1, amTcpI_d, Nat.reduceLeDiff, Nat.reduceAdd, Nat.reduceSub, Nat.reduceEqDiff, Nat.le_refl, amN0le, b1, i0, i1]
      rw [tJ10_vectorizedHashCode_d]
      refine ⟨t, hB, rfl, rfl, rfl, ?_⟩
      simp (disch := omega) only [wJ13_hashCode_0, uJ13_hashCode_0, wJ13_hashCode_1, wJ13_hashCode_2, wJ13_hashCode_28, wJ13_hashCode_29, wJ13_hashCode_32, wJ13_hashCode_33, wJ13_hashCode_34, wJ13_hashCode_35, wJ13_hashCode_38, wJ13_hashCode_39, wJ13_hashCode_42, wJ13_hashCode_43, wJ13_hashCode_44, wJ13_hashCode_45, wJ13_hashCode_46, wJ13_hashCode_47, wJ13_hashCode_48, wJ13_hashCode_51, amSI_1, amSI_2, amSI_3, amSI_s, amU_at, amIsR_ref, amIsR_null, amIsR_rf, amRf_some, amRf_none, amClr_int, amClr_ref, amClr_null, amClr_long, amClr_ra, amClr_rf, amFit_int, amFit_oref, amFit_aref, amFit_onull, amFit_anull, amOptSome, amOptNone, List.cons_append, List.nil_append, true_and, and_true, true_implies, not_true_eq_false, not_false_eq_true, false_implies, and_self, Nat.add_zero, Nat.zero_add, ne_eq, Prod.mk.injEq, amC01_0, amC01_1, amC01_nb, amNb0, amNb1, amTcpI_d, Nat.reduceLeDiff, Nat.reduceAdd, Nat.reduceSub, Nat.reduceEqDiff, Nat.le_refl, amN0le, amLeI, amLtI, amEqI, amLe0, amGt0, amEq0, amNotPosI, amGe0, amVI, amCl_nI, amAdd, amSub, amMul]
      exact amRet.of (by decide) (by decide) hK
theorem tJ13_hashCode_d {a : Nat} {h : amH} {K : Option Value → amH → Prop} : tJ13_hashCode [.ref a] h K = ∃ t : List Nat, ByIs h a t ∧ K (some (.int (hsF (nI 0) t))) h := rfl
def tJ6_hashCode : amT := fun as h K => match as with
  | [.ref s] => ∃ t : List Nat, StIs h s t ∧ (24 : Nat) ≤ s ∧ h.2.1 s 2 = nI 0 ∧ h.2.1 s 3 = nI 0 ∧ ∀ h', h'.2.2.2.2 = h.2.2.2.2 → (∀ i, i ≠ s → amSame h h' i) → StIs h' s t → K (some (.int (hsF (nI 0) t))) h'
  | _ => False
/-! java/lang/String.hashCode()I -/
def kJ6_hashCode : Nat → Bool := fun pc => false
def rJ6_hashCode : List (Nat × amS) := [(1, 1, 0, 0, amTget 7 2), (10, 1, 0, 0, amTget 7 3), (17, 1, 0, 0, (amRecv 7 tJ6_isLatin1)), (24, 1, 0, 0, amTget 7 0), (27, 1, 0, 0, tJ13_hashCode), (47, 2, 0, 0, amTput 7 3), (55, 2, 0, 0, amTput 7 2)]
def eJ6_hashCode (ret : Option Value → amH → Nat → Nat → Prop) (F : amX) : Nat → amX := amWp cJ6_hashCode kJ6_hashCode (amLk rJ6_hashCode) (some .int) 0 0 ret F
def sJ6_hashCode (ret : Option Value → amH → Nat → Nat → Prop) (F : amX) : Nat → amX := amWs cJ6_hashCode kJ6_hashCode (amLk rJ6_hashCode) (some .int) 0 0 ret F
theorem wJ6_hashCode_0 {ret F n h} {v0 v1 st} : eJ6_hashCode ret F (n + 1) 0 [v0, v1] (st) h 0 0 = (amIsR v0 ∧ eJ6_hashCode ret F n 1 [v0, v1] (v0 :: st) h 0 0) := (amWp_dec rfl dJ6_hashCode_0 rfl).trans rfl
theorem uJ6_hashCode_0 {ret F n h} {v0 v1 st} : sJ6_hashCode ret F n 0 [v0, v1] (st) h 0 0 = (amIsR v0 ∧ eJ6_hashCode ret F n 1 [v0, v1] (v0 :: st) h 0 0) := (amWs_dec dJ6_hashCode_0 rfl).trans rfl
theorem wJ6_hashCode_1 {ret F n h} {v0 v1 a} : eJ6_hashCode ret F (n + 1) 1 [v0, v1] (.ref a :: []) h 0 0 = (h.1 a = (0, 7) ∧ eJ6_hashCode ret F n 4 [v0, v1] (.int (h.2.1 a 2) :: []) h 0 0) := (amWp_dec rfl dJ6_hashCode_1 rfl).trans (amS4 (Nat.le_of_ble_eq_true rfl) (Nat.le_of_ble_eq_true rfl) (Nat.le_of_ble_eq_true rfl) (Nat.le_of_ble_eq_true rfl))
theorem wJ6_hashCode_4 {ret F n h} {v0 v1 st x} : eJ6_hashCode ret F (n + 1) 4 [v0, v1] (.int x :: st) h 0 0 = (eJ6_hashCode ret F n 5 [amClr v0, .int x] (st) h 0 0) := (amWp_dec rfl dJ6_hashCode_4 rfl).trans (amTrue (Nat.le_of_ble_eq_true rfl))
theorem wJ6_hashCode_5 {ret F n h} {v0 st x} : eJ6_hashCode ret F (n + 1) 5 [v0, .int x] (st) h 0 0 = (eJ6_hashCode ret F n 6 [v0, .int x] (.int x :: st) h 0 0) := (amWp_dec rfl dJ6_hashCode_5 rfl).trans rfl
theorem wJ6_hashCode_6 {ret F n h} {v0 v1 st x} : eJ6_hashCode ret F (n + 1) 6 [v0, v1] (.int x :: st) h 0 0 = ((¬ x = 0 → eJ6_hashCode ret F n 58 [v0, v1] (st) h 0 0) ∧ (x = 0 → eJ6_hashCode ret F n 9 [v0, v1] (st) h 0 0)) := (amWp_dec rfl dJ6_hashCode_6 rfl).trans rfl
theorem wJ6_hashCode_9 {ret F n h} {v0 v1 st} : eJ6_hashCode ret F (n + 1) 9 [v0, v1] (st) h 0 0 = (amIsR v0 ∧ eJ6_hashCode ret F n 10 [v0, v1] (v0 :: st) h 0 0) := (amWp_dec rfl dJ6_hashCode_9 rfl).trans rfl
theorem wJ6_hashCode_10 {ret F n h} {v0 v1 a} : eJ6_hashCode ret F (n + 1) 10 [v0, v1] (.ref a :: []) h 0 0 = (h.1 a = (0, 7) ∧ eJ6_hashCode ret F n 13 [v0, v1] (.int (h.2.1 a 3) :: []) h 0 0) := (amWp_dec rfl dJ6_hashCode_10 rfl).trans (amS4 (Nat.le_of_ble_eq_true rfl) (Nat.le_of_ble_eq_true rfl) (Nat.le_of_ble_eq_true rfl) (Nat.le_of_ble_eq_true rfl))
theorem wJ6_hashCode_13 {ret F n h} {v0 v1 st x} : eJ6_hashCode ret F (n + 1) 13 [v0, v1] (.int x :: st) h 0 0 = ((¬ x = 0 → eJ6_hashCode ret F n 58 [v0, v1] (st) h 0 0) ∧ (x = 0 → eJ6_hashCode ret F n 16 [v0, v1] (st) h 0 0)) := (amWp_dec rfl dJ6_hashCode_13 rfl).trans rfl
theorem wJ6_hashCode_16 {ret F n h} {v0 v1 st} : eJ6_hashCode ret F (n + 1) 16 [v0, v1] (st) h 0 0 = (amIsR v0 ∧ eJ6_hashCode ret F n 17 [v0, v1] (v0 :: st) h 0 0) := (amWp_dec rfl dJ6_hashCode_16 rfl).trans rfl
theorem wJ6_hashCode_17 {ret F n h} {v0 v1 x0} : eJ6_hashCode ret F (n + 1) 17 [v0, v1] (.ref x0 :: []) h 0 0 = (h.1 x0 = (0, 7) ∧ tJ6_isLatin1 [.ref x0] h (fun v h => eJ6_hashCode ret F n 20 [v0, v1] (v.toList ++ ([])) h 0 0)) := (amWp_dec rfl dJ6_hashCode_17 rfl).trans (amS4 (Nat.le_of_ble_eq_true rfl) (Nat.le_of_ble_eq_true rfl) (Nat.le_of_ble_eq_true rfl) (Nat.le_of_ble_eq_true rfl))
theorem wJ6_hashCode_20 {ret F n h} {v0 v1 st x} : eJ6_hashCode ret F (n + 1) 20 [v0, v1] (.int x :: st) h 0 0 = ((x = 0 → eJ6_hashCode ret F n 33 [v0, v1] (st) h 0 0) ∧ (¬ x = 0 → eJ6_hashCode ret F n 23 [v0, v1] (st) h 0 0)) := (amWp_dec rfl dJ6_hashCode_20 rfl).trans rfl
theorem wJ6_hashCode_23 {ret F n h} {v0 v1 st} : eJ6_hashCode ret F (n + 1) 23 [v0, v1] (st) h 0 0 = (amIsR v0 ∧ eJ6_hashCode ret F n 24 [v0, v1] (v0 :: st) h 0 0) := (amWp_dec rfl dJ6_hashCode_23 rfl).trans rfl
theorem wJ6_hashCode_24 {ret F n h} {v0 v1 a} : eJ6_hashCode ret F (n + 1) 24 [v0, v1] (.ref a :: []) h 0 0 = (h.1 a = (0, 7) ∧ eJ6_hashCode ret F n 27 [v0, v1] (va_rf (h.2.2.2.1 a 0) :: []) h 0 0) := (amWp_dec rfl dJ6_hashCode_24 rfl).trans (amS4 (Nat.le_of_ble_eq_true rfl) (Nat.le_of_ble_eq_true rfl) (Nat.le_of_ble_eq_true rfl) (Nat.le_of_ble_eq_true rfl))
theorem wJ6_hashCode_27 {ret F n h} {v0 v1 x0} : eJ6_hashCode ret F (n + 1) 27 [v0, v1] (.ref x0 :: []) h 0 0 = (tJ13_hashCode [.ref x0] h (fun v h => eJ6_hashCode ret F n 30 [v0, v1] (v.toList ++ ([])) h 0 0)) := (amWp_dec rfl dJ6_hashCode_27 rfl).trans (amS4 (Nat.le_of_ble_eq_true rfl) (Nat.le_of_ble_eq_true rfl) (Nat.le_of_ble_eq_true rfl) (Nat.le_of_ble_eq_true rfl))
theorem wJ6_hashCode_30 {ret F n h} {v0 v1 st} : eJ6_hashCode ret F (n + 1) 30 [v0, v1] (st) h 0 0 = (eJ6_hashCode ret F n 40 [v0, v1] (st) h 0 0) := (amWp_dec rfl dJ6_hashCode_30 rfl).trans rfl
theorem wJ6_hashCode_40 {ret F n h} {v0 v1 st x} : eJ6_hashCode ret F (n + 1) 40 [v0, v1] (.int x :: st) h 0 0 = (eJ6_hashCode ret F n 41 [amClr v0, .int x] (st) h 0 0) := (amWp_dec rfl dJ6_hashCode_40 rfl).trans (amTrue (Nat.le_of_ble_eq_true rfl))
theorem wJ6_hashCode_41 {ret F n h} {v0 st x} : eJ6_hashCode ret F (n + 1) 41 [v0, .int x] (st) h 0 0 = (eJ6_hashCode ret F n 42 [v0, .int x] (.int x :: st) h 0 0) := (amWp_dec rfl dJ6_hashCode_41 rfl).trans rfl
theorem wJ6_hashCode_42 {ret F n h} {v0 v1 st x} : eJ6_hashCode ret F (n + 1) 42 [v0, v1] (.int x :: st) h 0 0 = ((¬ x = 0 → eJ6_hashCode ret F n 53 [v0, v1] (st) h 0 0) ∧ (x = 0 → eJ6_hashCode ret F n 45 [v0, v1] (st) h 0 0)) := (amWp_dec rfl dJ6_hashCode_42 rfl).trans rfl
theorem wJ6_hashCode_45 {ret F n h} {v0 v1 st} : eJ6_hashCode ret F (n + 1) 45 [v0, v1] (st) h 0 0 = (amIsR v0 ∧ eJ6_hashCode ret F n 46 [v0, v1] (v0 :: st) h 0 0) := (amWp_dec rfl dJ6_hashCode_45 rfl).trans rfl
theorem wJ6_hashCode_46 {ret F n h} {v0 v1 st} : eJ6_hashCode ret F (n + 1) 46 [v0, v1] (st) h 0 0 = (eJ6_hashCode ret F n 47 [v0, v1] (.int (nI 1) :: st) h 0 0) := (amWp_dec rfl dJ6_hashCode_46 rfl).trans rfl
theorem wJ6_hashCode_47 {ret F n h} {v0 v1 x a} : eJ6_hashCode ret F (n + 1) 47 [v0, v1] (.int x :: .ref a :: []) h 0 0 = (h.1 a = (0, 7) ∧ amN0 ≤ a ∧ amFit .boolean (.int x) ∧ eJ6_hashCode ret F n 50 [v0, v1] ([]) (amSI h (amU h.2.1 a 3 x)) 0 0) := (amWp_dec rfl dJ6_hashCode_47 rfl).trans (amS4 (Nat.le_of_ble_eq_true rfl) (Nat.le_of_ble_eq_true rfl) (Nat.le_of_ble_eq_true rfl) (Nat.le_of_ble_eq_true rfl))
theorem wJ6_hashCode_50 {ret F n h} {v0 v1 st} : eJ6_hashCode ret F (n + 1) 50 [v0, v1] (st) h 0 0 = (eJ6_hashCode ret F n 58 [v0, v1] (st) h 0 0) := (amWp_dec rfl dJ6_hashCode_50 rfl).trans rfl
theorem wJ6_hashCode_53 {ret F n h} {v0 v1 st} : eJ6_hashCode ret F (n + 1) 53 [v0, v1] (st) h 0 0 = (amIsR v0 ∧ eJ6_hashCode ret F n 54 [v0, v1] (v0 :: st) h 0 0) := (amWp_dec rfl dJ6_hashCode_53 rfl).trans rfl
theorem wJ6_hashCode_54 {ret F n h} {v0 st x} : eJ6_hashCode ret F (n + 1) 54 [v0, .int x] (st) h 0 0 = (eJ6_hashCode ret F n 55 [v0, .int x] (.int x :: st) h 0 0) := (amWp_dec rfl dJ6_hashCode_54 rfl).trans rfl
theorem wJ6_hashCode_55 {ret F n h} {v0 v1 x a} : eJ6_hashCode ret F (n + 1) 55 [v0, v1] (.int x :: .ref a :: []) h 0 0 = (h.1 a = (0, 7) ∧ amN0 ≤ a ∧ amFit .int (.int x) ∧ eJ6_hashCode ret F n 58 [v0, v1] ([]) (amSI h (amU h.2.1 a 2 x)) 0 0) := (amWp_dec rfl dJ6_hashCode_55 rfl).trans (amS4 (Nat.le_of_ble_eq_true rfl) (Nat.le_of_ble_eq_true rfl) (Nat.le_of_ble_eq_true rfl) (Nat.le_of_ble_eq_true rfl))
theorem wJ6_hashCode_58 {ret F n h} {v0 st x} : eJ6_hashCode ret F (n + 1) 58 [v0, .int x] (st) h 0 0 = (eJ6_hashCode ret F n 59 [v0, .int x] (.int x :: st) h 0 0) := (amWp_dec rfl dJ6_hashCode_58 rfl).trans rfl
theorem wJ6_hashCode_59 {ret F n h} {v0 v1 x} : eJ6_hashCode ret F (n + 1) 59 [v0, v1] ([.int x]) h 0 0 = (ret (some (.int x)) h 0 0) := (amWp_dec rfl dJ6_hashCode_59 rfl).trans (amTrue ⟨_, rfl, rfl⟩)
theorem evJ6_hashCode (l : Launch) (G : amG) : ∀ pc S i sz, amLk rJ6_hashCode pc = some S → decode cJ6_hashCode pc = .ok (i, sz) → amSiteP pc G l yJ6_hashCode.cls yJ6_hashCode.name yJ6_hashCode.desc (amRm 4 0 0) i sz S.1 S.2.1 S.2.2.1 S.2.2.2 := amLk_ok (by
  refine List.forall_mem_cons.mpr ⟨⟨_, _, dJ6_hashCode_1, amSite.P (amSiteGet ⟨_, rfl, by decide, Or.inl q835⟩)⟩, ?_⟩
  refine List.forall_mem_cons.mpr ⟨⟨_, _, dJ6_hashCode_10, amSite.P (amSiteGet ⟨_, rfl, by decide, Or.inl q836⟩)⟩, ?_⟩
  refine List.forall_mem_cons.mpr ⟨⟨_, _, dJ6_hashCode_17, amSite.P (amSiteV (C := RJ6) (metJ6_isLatin1 l G) rfl (by decide) (by decide) (lw_V q853 q854 q855 q102 q856) ⟨_, rfl, rfl⟩ ⟨rfl, by decide +kernel, by decide +kernel, by decide +kernel⟩)⟩, ?_⟩
  refine List.forall_mem_cons.mpr ⟨⟨_, _, dJ6_hashCode_24, amSite.P (amSiteGet ⟨_, rfl, by decide, Or.inl q833⟩)⟩, ?_⟩
  refine List.forall_mem_cons.mpr ⟨⟨_, _, dJ6_hashCode_27, amSite.P (amSiteS (metJ13_hashCode l G) rfl (by decide) (by decide) (lw_S q1069 q1070 q109 q1071) ⟨by decide +kernel, by decide +kernel, by decide +kernel⟩)⟩, ?_⟩
  refine List.forall_mem_cons.mpr ⟨⟨_, _, dJ6_hashCode_47, amSite.P (amSitePut ⟨_, rfl, by decide, Or.inl q836⟩ (fun q h => by cases h; rfl))⟩, ?_⟩
  refine List.forall_mem_cons.mpr ⟨⟨_, _, dJ6_hashCode_55, amSite.P (amSitePut ⟨_, rfl, by decide, Or.inl q835⟩ (fun q h => by cases h; rfl))⟩, ?_⟩
  exact fun _ h => absurd h List.not_mem_nil)
theorem goJ6_hashCode {ret F} (hF : amCld cJ6_hashCode kJ6_hashCode (amLk rJ6_hashCode) (some .int) 0 0 ret F) (n : Nat) {pc ls st h k z} (q : sJ6_hashCode ret F n pc ls st h k z) : F pc ls st h k z := hF.1 n pc ls st h k z q
theorem metJ6_hashCode (l : Launch) (G : amG) : amMet l G yJ6_hashCode (ws_ yJ6_hashCode cJ6_hashCode 2 (some .int)) 4 0 0 tJ6_hashCode := by
  refine amMet_of (cut := kJ6_hashCode) (by decide +kernel) (evJ6_hashCode l G) ?_
  intro as h K hT
  match as, hT with
  | [.ref s], ⟨t, hs, s24, z2, z3, hK⟩ =>
  refine ⟨Nat.le_of_ble_eq_true rfl, fun F hF => ?_⟩
  show F 0 [.ref s, .retAddr 0] [] h 0 0
  obtain ⟨s, rfl⟩ : ∃ i : Nat, i = s := ⟨_, rfl⟩
  have s24 : (24 : Nat) ≤ s := s24
  have s24' : (amN0 ≤ s) = True := eq_true s24
  obtain ⟨s1, s2, v, s3, s4, s5, s6, s7, s8, s9⟩ := id hs
  have vs : v ≠ s := fun e => by rw [e, s1] at s6; exact absurd (congrArg Prod.fst s6) (by decide : (0 : Nat) ≠ 2)
  have fin : ∀ j x, j ≠ 1 → K (some (.int (hsF (nI 0) t))) (amSI h (amU h.2.1 s j x)) := fun j x hj => hK _ rfl (fun i hi => ⟨rfl, amU_neR hi, rfl, rfl⟩) ⟨s1, s2, v, s3, s4, (amU_nj (Ne.symm hj)).trans s5, s6, fun i hi => (congrFun (amU_neR vs) i).trans (s7 i hi), s8, s9⟩
  refine goJ6_hashCode hF 40 ?_
  simp (disch := omega) only [wJ6_hashCode_0, uJ6_hashCode_0, wJ6_hashCode_1, wJ6_hashCode_4, wJ6_hashCode_5, wJ6_hashCode_6, wJ6_hashCode_9, wJ6_hashCode_10, wJ6_hashCode_13, wJ6_hashCode_16, wJ6_hashCode_17, wJ6_hashCode_20, wJ6_hashCode_23, wJ6_hashCode_24, wJ6_hashCode_27, wJ6_hashCode_30, wJ6_hashCode_40, wJ6_hashCode_41, wJ6_hashCode_42, wJ6_hashCode_45, wJ6_hashCode_46, wJ6_hashCode_47, wJ6_hashCode_50, wJ6_hashCode_53, wJ6_hashCode_54, wJ6_hashCode_55, wJ6_hashCode_58, wJ6_hashCode_59, amSI_1, amSI_2, amSI_3, amSI_s, amU_at, amIsR_ref, amIsR_null, amIsR_rf, amRf_some, amRf_none, amClr_int, amClr_ref, amClr_null, amClr_long, amClr_ra, amClr_rf, amFit_int, amFit_oref, amFit_aref, amFit_onull, amFit_anull, amOptSome, amOptNone, List.cons_append, List.nil_append, true_and, and_true, true_implies, not_true_eq_false, not_false_eq_true, false_implies, and_self, Nat.add_zero, Nat.zero_add, ne_eq, Prod.mk.injEq, amC01_0, amC01_1, amC01_nb, amNb0, amNb1, amTcpI_d, Nat.reduceLeDiff, Nat.reduceAdd, Nat.reduceSub, Nat.reduceEqDiff, Nat.le_refl, amN0le, amLeI, amLtI, amEqI, amLe0, amGt0, amEq0, amNotPosI, amGe0, amVI, amCl_nI, amAdd, amSub, amMul, s1, s4, s5, z2, z3, tJ6_isLatin1_d]
  rw [tJ13_hashCode_d]
  refine ⟨t, ⟨s6, s7, s8, s9⟩, ?_⟩
  generalize hsF (nI 0) t = x at hK fin ⊢
  by_cases c : x = 0
  · have c' : (x = 0) = True := eq_true c
    have k1 := fin 3 (nI 1) (by decide)
    simp (disch := omega) only [wJ6_hashCode_0, uJ6_hashCode_0, wJ6_hashCode_1, wJ6_hashCode_4, wJ6_hashCode_5, wJ6_hashCode_6, wJ6_hashCode_9, wJ6_hashCode_10, wJ6_hashCode_13, wJ6_hashCode_16, wJ6_hashCode_17, wJ6_hashCode_20, wJ6_hashCode_23, wJ6_hashCode_24, wJ6_hashCode_27, wJ6_hashCode_30, wJ6_hashCode_40, wJ6_hashCode_41, wJ6_hashCode_42, wJ6_hashCode_45, wJ6_hashCode_46, wJ6_hashCode_47, wJ6_hashCode_50, wJ6_hashCode_53, wJ6_hashCode_54, wJ6_hashCode_55, wJ6_hashCode_58, wJ6_hashCode_59, amSI_1, amSI_2, amSI_3, amSI_s, amU_at, amIsR_ref, amIsR_null, amIsR_rf, amRf_some, amRf_none, amClr_int, amClr_ref, amClr_null, amClr_long, amClr_ra, amClr_rf, amFit_int, amFit_oref, amFit_aref, amFit_onull, amFit_anull, amOptSome, amOptNone, List.cons_append, List.nil_append, true_and, and_true, true_implies, not_true_eq_false, not_false_eq_true, false_implies, and_self, Nat.add_zero, Nat.zero_add, ne_eq, Prod.mk.injEq, amC01_0, amC01_1, amC01_nb, amNb0, amNb1, amTcpI_d, Nat.reduceLeDiff, Nat.reduceAdd, Nat.reduceSub, Nat.reduceEqDiff, Nat.le_refl, amN0le, s1, c', s24', amFitB1]
    exact amRet.of (by decide) (by decide) k1
  · have c' : (x = 0) = False := eq_false c
    have k1 := fin 2 x (by decide)
    simp (disch := omega) only [wJ6_hashCode_0, uJ6_hashCode_0, wJ6_hashCode_1, wJ6_hashCode_4, wJ6_hashCode_5, wJ6_hashCode_6, wJ6_hashCode_9, wJ6_hashCode_10, wJ6_hashCode_13, wJ6_hashCode_16, wJ6_hashCode_17, wJ6_hashCode_20, wJ6_hashCode_23, wJ6_hashCode_24, wJ6_hashCode_27, wJ6_hashCode_30, wJ6_hashCode_40, wJ6_hashCode_41, wJ6_hashCode_42, wJ6_hashCode_45, wJ6_hashCode_46, wJ6_hashCode_47, wJ6_hashCode_50, wJ6_hashCode_53, wJ6_hashCode_54, wJ6_hashCode_55, wJ6_hashCode_58, wJ6_hashCode_59, amSI_1, amSI_2, amSI_3, amSI_s, amU_at, amIsR_ref, amIsR_null, amIsR_rf, amRf_some, amRf_none, amClr_int, amClr_ref, amClr_null, amClr_long, amClr_ra, amClr_rf, amFit_int, amFit_oref, amFit_aref, amFit_onull, amFit_anull, amOptSome, amOptNone, List.cons_append, List.nil_append, true_and, and_true, true_implies, not_true_eq_false, not_false_eq_true, false_implies, and_self, Nat.add_zero, Nat.zero_add, ne_eq, Prod.mk.injEq, amC01_0, amC01_1, amC01_nb, amNb0, amNb1, amTcpI_d, Nat.reduceLeDiff, Nat.reduceAdd, Nat.reduceSub, Nat.reduceEqDiff, Nat.le_refl, amN0le, s1, c', s24']
    exact amRet.of (by decide) (by decide) k1
theorem tJ6_hashCode_d {s : Nat} {h : amH} {K : Option Value → amH → Prop} : tJ6_hashCode [.ref s] h K = ∃ t : List Nat, StIs h s t ∧ (24 : Nat) ≤ s ∧ h.2.1 s 2 = nI 0 ∧ h.2.1 s 3 = nI 0 ∧ ∀ h', h'.2.2.2.2 = h.2.2.2.2 → (∀ i, i ≠ s → amSame h h' i) → StIs h' s t → K (some (.int (hsF (nI 0) t))) h' := rfl
