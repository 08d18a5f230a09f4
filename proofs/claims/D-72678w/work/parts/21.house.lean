/-! House -/
set_option maxRecDepth 100000
/-- a house: cell a, its sets a+1, ahead a+2, its board a+3 (books a+4) -/
def hsAt (h : amH) (a : Nat) : Prop := h.1 a = (0, 1) ∧ h.1 (a + 1) = (1, 7) ∧ h.1 (a + 2) = (2, 7) ∧ h.2.2.2.1 a 0 = some (a + 1) ∧ h.2.2.2.1 a 1 = some (a + 2) ∧ h.2.2.2.1 a 2 = some (a + 3) ∧ bdAt h (a + 3)
/-- what a house keeps: order, sets, ahead, prior, span, bound, rule, draw -/
abbrev HS : Type := List Nat × List Nat × List Nat × Nat × Nat × Nat × Nat × Nat
abbrev HS.ord (S : HS) : List Nat := S.1
abbrev HS.sets (S : HS) : List Nat := S.2.1
abbrev HS.ahead (S : HS) : List Nat := S.2.2.1
abbrev HS.prior (S : HS) : Nat := S.2.2.2.1
abbrev HS.span (S : HS) : Nat := S.2.2.2.2.1
abbrev HS.bound (S : HS) : Nat := S.2.2.2.2.2.1
abbrev HS.rule (S : HS) : Nat := S.2.2.2.2.2.2.1
abbrev HS.draw (S : HS) : Nat := S.2.2.2.2.2.2.2
/-- a house keeps it -/
def HsIs (m : Nat → Nat → Int32) (a : Nat) (S : HS) : Prop := bdIs m (a + 3) S.ord ∧ S.sets.length = S.ord.length ∧ S.ahead.length = S.ord.length ∧ (∀ k, k < S.ord.length → m (a + 1) k = nI (S.sets.getD k 0)) ∧ (∀ k, k < S.ord.length → m (a + 2) k = nI (S.ahead.getD k 0)) ∧ m a 3 = nI S.prior ∧ m a 4 = nI S.span ∧ m a 5 = nI S.bound ∧ m a 6 = nI S.rule ∧ m a 7 = nI S.draw ∧ ∀ x ∈ S.ahead, x < 128
theorem HsIs.ord {m a S} (h : HsIs m a S) : bdIs m (a + 3) (HS.ord S) := h.1
theorem HsIs.ls {m a S} (h : HsIs m a S) : (HS.sets S).length = (HS.ord S).length := h.2.1
theorem HsIs.la {m a S} (h : HsIs m a S) : (HS.ahead S).length = (HS.ord S).length := h.2.2.1
theorem HsIs.sets {m a S} (h : HsIs m a S) : ∀ k, k < (HS.ord S).length → m (a + 1) k = nI ((HS.sets S).getD k 0) := h.2.2.2.1
theorem HsIs.ahead {m a S} (h : HsIs m a S) : ∀ k, k < (HS.ord S).length → m (a + 2) k = nI ((HS.ahead S).getD k 0) := h.2.2.2.2.1
theorem HsIs.prior {m a S} (h : HsIs m a S) : m a 3 = nI (HS.prior S) := h.2.2.2.2.2.1
theorem HsIs.span {m a S} (h : HsIs m a S) : m a 4 = nI (HS.span S) := h.2.2.2.2.2.2.1
theorem HsIs.bound {m a S} (h : HsIs m a S) : m a 5 = nI (HS.bound S) := h.2.2.2.2.2.2.2.1
theorem HsIs.rule {m a S} (h : HsIs m a S) : m a 6 = nI (HS.rule S) := h.2.2.2.2.2.2.2.2.1
theorem HsIs.draw {m a S} (h : HsIs m a S) : m a 7 = nI (HS.draw S) := h.2.2.2.2.2.2.2.2.2.1
theorem HsIs.ba {m a S} (h : HsIs m a S) : ∀ x ∈ (HS.ahead S), x < 128 := h.2.2.2.2.2.2.2.2.2.2
theorem HsIs.mk {m : Nat → Nat → Int32} {a : Nat} {S : HS} (h1 : bdIs m (a + 3) S.ord) (h2 : S.sets.length = S.ord.length) (h3 : S.ahead.length = S.ord.length) (h4 : ∀ k, k < S.ord.length → m (a + 1) k = nI (S.sets.getD k 0)) (h5 : ∀ k, k < S.ord.length → m (a + 2) k = nI (S.ahead.getD k 0)) (h6 : m a 3 = nI S.prior) (h7 : m a 4 = nI S.span) (h8 : m a 5 = nI S.bound) (h9 : m a 6 = nI S.rule) (h10 : m a 7 = nI S.draw) (h11 : ∀ x ∈ S.ahead, x < 128) : HsIs m a S := ⟨h1, h2, h3, h4, h5, h6, h7, h8, h9, h10, h11⟩
theorem HsIs.many {m a S} (h : HsIs m a S) : m (a + 3) 1 = nI (HS.ord S).length := h.ord.2.2.1
theorem HsIs.n7 {m a S} (h : HsIs m a S) : (HS.ord S).length ≤ 7 := h.ord.1
theorem HsIs.al {m a S} (h : HsIs m a S) {k : Nat} (hk : k < (HS.ord S).length) : (HS.ahead S).getD k 0 < 128 := h.ba _ (getD_mem (by rw [h.la]; exact hk))
theorem HsIs.kept {m m' : Nat → Nat → Int32} {a : Nat} {S : HS} (h : HsIs m a S) (e : ∀ i, a ≤ i → i < a + 5 → m' i = m i) : HsIs m' a S := by
  have e0 := e a (by omega) (by omega)
  refine HsIs.mk (h.ord.kept (e _ (by omega) (by omega)) (e _ (by omega) (by omega))) h.ls h.la (fun k hk => ?_) (fun k hk => ?_) ?_ ?_ ?_ ?_ ?_ h.ba
  · rw [e _ (by omega) (by omega)]; exact h.sets k hk
  · rw [e _ (by omega) (by omega)]; exact h.ahead k hk
  · rw [e0]; exact h.prior
  · rw [e0]; exact h.span
  · rw [e0]; exact h.bound
  · rw [e0]; exact h.rule
  · rw [e0]; exact h.draw
/-- nothing but a house has changed -/
def hsFr (m m' : Nat → Nat → Int32) (a : Nat) : Prop := ∀ i, (i < a ∨ a + 5 ≤ i) → m' i = m i
def tX1_many : amT := fun as h K => match as with
  | [.ref a] => h.1 a = (0, 1) ∧ h.2.2.2.1 a 2 = some (a + 3) ∧ h.1 (a + 3) = (0, 2) ∧ K (some (.int (h.2.1 (a + 3) 1))) h
  | _ => False
/-! ReadingStages$House.many()I -/
def kX1_many : Nat → Bool := fun pc => false
def rX1_many : List (Nat × amS) := [(1, 1, 0, 0, amTget 1 2), (4, 1, 0, 0, amTget 2 1)]
def eX1_many (ret : Option Value → amH → Nat → Nat → Prop) (F : amX) : Nat → amX := amWp cX1_many kX1_many (amLk rX1_many) (some .int) 0 0 ret F
def sX1_many (ret : Option Value → amH → Nat → Nat → Prop) (F : amX) : Nat → amX := amWs cX1_many kX1_many (amLk rX1_many) (some .int) 0 0 ret F
theorem wX1_many_0 {ret F n h} {v0 st} : eX1_many ret F (n + 1) 0 [v0] (st) h 0 0 = (amIsR v0 ∧ eX1_many ret F n 1 [v0] (v0 :: st) h 0 0) := (amWp_dec rfl dX1_many_0 rfl).trans rfl
theorem uX1_many_0 {ret F n h} {v0 st} : sX1_many ret F n 0 [v0] (st) h 0 0 = (amIsR v0 ∧ eX1_many ret F n 1 [v0] (v0 :: st) h 0 0) := (amWs_dec dX1_many_0 rfl).trans rfl
theorem wX1_many_1 {ret F n h} {v0 a} : eX1_many ret F (n + 1) 1 [v0] (.ref a :: []) h 0 0 = (h.1 a = (0, 1) ∧ eX1_many ret F n 4 [v0] (va_rf (h.2.2.2.1 a 2) :: []) h 0 0) := (amWp_dec rfl dX1_many_1 rfl).trans (amS4 (Nat.le_of_ble_eq_true rfl) (Nat.le_of_ble_eq_true rfl) (Nat.le_of_ble_eq_true rfl) (Nat.le_of_ble_eq_true rfl))
theorem wX1_many_4 {ret F n h} {v0 a} : eX1_many ret F (n + 1) 4 [v0] (.ref a :: []) h 0 0 = (h.1 a = (0, 2) ∧ eX1_many ret F n 7 [v0] (.int (h.2.1 a 1) :: []) h 0 0) := (amWp_dec rfl dX1_many_4 rfl).trans (amS4 (Nat.le_of_ble_eq_true rfl) (Nat.le_of_ble_eq_true rfl) (Nat.le_of_ble_eq_true rfl) (Nat.le_of_ble_eq_true rfl))
theorem wX1_many_7 {ret F n h} {v0 x} : eX1_many ret F (n + 1) 7 [v0] ([.int x]) h 0 0 = (ret (some (.int x)) h 0 0) := (amWp_dec rfl dX1_many_7 rfl).trans (amTrue ⟨_, rfl, rfl⟩)
theorem evX1_many (l : Launch) (G : amG) : ∀ pc S i sz, amLk rX1_many pc = some S → decode cX1_many pc = .ok (i, sz) → amSiteP pc G l yX1_many.cls yX1_many.name yX1_many.desc (amRm 1 0 0) i sz S.1 S.2.1 S.2.2.1 S.2.2.2 := amLk_ok (by
  refine List.forall_mem_cons.mpr ⟨⟨_, _, dX1_many_1, amSite.P (amSiteGet ⟨_, rfl, by decide, Or.inl q150⟩)⟩, ?_⟩
  refine List.forall_mem_cons.mpr ⟨⟨_, _, dX1_many_4, amSite.P (amSiteGet ⟨_, rfl, by decide, Or.inr ⟨"ReadingStages", List.mem_of_getElem? (i := 0) rfl⟩⟩)⟩, ?_⟩
  exact fun _ h => absurd h List.not_mem_nil)
theorem goX1_many {ret F} (hF : amCld cX1_many kX1_many (amLk rX1_many) (some .int) 0 0 ret F) (n : Nat) {pc ls st h k z} (q : sX1_many ret F n pc ls st h k z) : F pc ls st h k z := hF.1 n pc ls st h k z q
theorem metX1_many (l : Launch) (G : amG) : amMet l G yX1_many (ws_ yX1_many cX1_many 1 (some .int)) 1 0 0 tX1_many := by
  refine amMet_of (cut := kX1_many) (by decide +kernel) (evX1_many l G) ?_
  intro as h K hT
  match as, hT with
  | [.ref a], ⟨h1, h2, h3, hK⟩ =>
  refine ⟨Nat.le_of_ble_eq_true rfl, fun F hF => ?_⟩
  show F 0 [.ref a] [] h 0 0
  obtain ⟨a, rfl⟩ : ∃ i : Nat, i = a := ⟨_, rfl⟩
  refine goX1_many hF 10 ?_
  simp (disch := omega) only [wX1_many_0, uX1_many_0, wX1_many_1, wX1_many_4, wX1_many_7, amSI_1, amSI_2, amSI_3, amSI_s, amU_at, amIsR_ref, amIsR_null, amIsR_rf, amRf_some, amRf_none, amClr_int, amClr_ref, amClr_null, amClr_long, amClr_ra, amClr_rf, amFit_int, amFit_oref, amFit_aref, amFit_onull, amFit_anull, amOptSome, amOptNone, List.cons_append, List.nil_append, true_and, and_true, true_implies, not_true_eq_false, not_false_eq_true, false_implies, and_self, Nat.add_zero, Nat.zero_add, ne_eq, Prod.mk.injEq, amC01_0, amC01_1, amC01_nb, amNb0, amNb1, amTcpI_d, Nat.reduceLeDiff, Nat.reduceAdd, Nat.reduceSub, Nat.reduceEqDiff, Nat.le_refl, amN0le, h1, h2, h3]
  exact amRet.of (by decide) (by decide) hK
theorem tX1_many_d {a : Nat} {h : amH} {K : Option Value → amH → Prop} : tX1_many [.ref a] h K = (h.1 a = (0, 1) ∧ h.2.2.2.1 a 2 = some (a + 3) ∧ h.1 (a + 3) = (0, 2) ∧ K (some (.int (h.2.1 (a + 3) 1))) h) := rfl
/-- two houses apart -/
def hsAp (a c : Nat) : Prop := a + 5 ≤ c ∨ c + 5 ≤ a
def tX1_takeFrom : amT := fun as h K => match as with
  | [.ref a, .ref c] => ∃ S : HS, hsAt h a ∧ hsAt h c ∧ amN0 ≤ a ∧ hsAp a c ∧ HsIs h.2.1 c S ∧ ∀ m', HsIs m' a S → hsFr h.2.1 m' a → K none (amSI h m')
  | _ => False
theorem tX2_takeFrom_d {b c : Nat} {h : amH} {K : Option Value → amH → Prop} : tX2_takeFrom [.ref b, .ref c] h K = (bdAt h b ∧ bdAt h c ∧ amN0 ≤ b ∧ c ≠ b + 1 ∧ K none (amSI h (bdCopy h.2.1 b c))) := rfl
/-! ReadingStages$House.takeFrom(LReadingStages$House;)V -/
def kX1_takeFrom : Nat → Bool := fun pc => false
def rX1_takeFrom : List (Nat × amS) := [(1, 1, 0, 0, amTget 1 0), (6, 1, 0, 0, amTget 1 0), (12, 5, 0, 0, amTcpI), (16, 1, 0, 0, amTget 1 1), (21, 1, 0, 0, amTget 1 1), (27, 5, 0, 0, amTcpI), (31, 1, 0, 0, amTget 1 2), (35, 1, 0, 0, amTget 1 2), (38, 2, 0, 0, (amRecv 2 tX2_takeFrom)), (43, 1, 0, 0, amTget 1 3), (46, 2, 0, 0, amTput 1 3), (51, 1, 0, 0, amTget 1 4), (54, 2, 0, 0, amTput 1 4), (59, 1, 0, 0, amTget 1 5), (62, 2, 0, 0, amTput 1 5), (67, 1, 0, 0, amTget 1 6), (70, 2, 0, 0, amTput 1 6), (75, 1, 0, 0, amTget 1 7), (78, 2, 0, 0, amTput 1 7)]
def eX1_takeFrom (ret : Option Value → amH → Nat → Nat → Prop) (F : amX) : Nat → amX := amWp cX1_takeFrom kX1_takeFrom (amLk rX1_takeFrom) none 0 0 ret F
def sX1_takeFrom (ret : Option Value → amH → Nat → Nat → Prop) (F : amX) : Nat → amX := amWs cX1_takeFrom kX1_takeFrom (amLk rX1_takeFrom) none 0 0 ret F
theorem wX1_takeFrom_0 {ret F n h} {v0 v1 st} : eX1_takeFrom ret F (n + 1) 0 [v0, v1] (st) h 0 0 = (amIsR v1 ∧ eX1_takeFrom ret F n 1 [v0, v1] (v1 :: st) h 0 0) := (amWp_dec rfl dX1_takeFrom_0 rfl).trans rfl
theorem uX1_takeFrom_0 {ret F n h} {v0 v1 st} : sX1_takeFrom ret F n 0 [v0, v1] (st) h 0 0 = (amIsR v1 ∧ eX1_takeFrom ret F n 1 [v0, v1] (v1 :: st) h 0 0) := (amWs_dec dX1_takeFrom_0 rfl).trans rfl
theorem wX1_takeFrom_1 {ret F n h} {v0 v1 a} : eX1_takeFrom ret F (n + 1) 1 [v0, v1] (.ref a :: []) h 0 0 = (h.1 a = (0, 1) ∧ eX1_takeFrom ret F n 4 [v0, v1] (va_rf (h.2.2.2.1 a 0) :: []) h 0 0) := (amWp_dec rfl dX1_takeFrom_1 rfl).trans (amS4 (Nat.le_of_ble_eq_true rfl) (Nat.le_of_ble_eq_true rfl) (Nat.le_of_ble_eq_true rfl) (Nat.le_of_ble_eq_true rfl))
theorem wX1_takeFrom_4 {ret F n h} {v0 v1 st} : eX1_takeFrom ret F (n + 1) 4 [v0, v1] (st) h 0 0 = (eX1_takeFrom ret F n 5 [v0, v1] (.int (nI 0) :: st) h 0 0) := (amWp_dec rfl dX1_takeFrom_4 rfl).trans rfl
theorem wX1_takeFrom_5 {ret F n h} {v0 v1 st} : eX1_takeFrom ret F (n + 1) 5 [v0, v1] (st) h 0 0 = (amIsR v0 ∧ eX1_takeFrom ret F n 6 [v0, v1] (v0 :: st) h 0 0) := (amWp_dec rfl dX1_takeFrom_5 rfl).trans rfl
theorem wX1_takeFrom_6 {ret F n h} {v0 v1 r0 r1 a} : eX1_takeFrom ret F (n + 1) 6 [v0, v1] (.ref a :: r0 :: r1 :: []) h 0 0 = (h.1 a = (0, 1) ∧ eX1_takeFrom ret F n 9 [v0, v1] (va_rf (h.2.2.2.1 a 0) :: r0 :: r1 :: []) h 0 0) := (amWp_dec rfl dX1_takeFrom_6 rfl).trans (amS4 (Nat.le_of_ble_eq_true rfl) (Nat.le_of_ble_eq_true rfl) (Nat.le_of_ble_eq_true rfl) (Nat.le_of_ble_eq_true rfl))
theorem wX1_takeFrom_9 {ret F n h} {v0 v1 st} : eX1_takeFrom ret F (n + 1) 9 [v0, v1] (st) h 0 0 = (eX1_takeFrom ret F n 10 [v0, v1] (.int (nI 0) :: st) h 0 0) := (amWp_dec rfl dX1_takeFrom_9 rfl).trans rfl
theorem wX1_takeFrom_10 {ret F n h} {v0 v1 st} : eX1_takeFrom ret F (n + 1) 10 [v0, v1] (st) h 0 0 = (eX1_takeFrom ret F n 12 [v0, v1] (.int (nI 7) :: st) h 0 0) := (amWp_dec rfl dX1_takeFrom_10 rfl).trans rfl
theorem wX1_takeFrom_12 {ret F n h} {v0 v1 x4 x3 x2 x1 x0} : eX1_takeFrom ret F (n + 1) 12 [v0, v1] (.int x4 :: .int x3 :: .ref x2 :: .int x1 :: .ref x0 :: []) h 0 0 = (amTcpI [.ref x0, .int x1, .ref x2, .int x3, .int x4] h (fun v h => eX1_takeFrom ret F n 15 [v0, v1] (v.toList ++ ([])) h 0 0)) := (amWp_dec rfl dX1_takeFrom_12 rfl).trans (amS4 (Nat.le_of_ble_eq_true rfl) (Nat.le_of_ble_eq_true rfl) (Nat.le_of_ble_eq_true rfl) (Nat.le_of_ble_eq_true rfl))
theorem wX1_takeFrom_15 {ret F n h} {v0 v1 st} : eX1_takeFrom ret F (n + 1) 15 [v0, v1] (st) h 0 0 = (amIsR v1 ∧ eX1_takeFrom ret F n 16 [v0, v1] (v1 :: st) h 0 0) := (amWp_dec rfl dX1_takeFrom_15 rfl).trans rfl
theorem wX1_takeFrom_16 {ret F n h} {v0 v1 a} : eX1_takeFrom ret F (n + 1) 16 [v0, v1] (.ref a :: []) h 0 0 = (h.1 a = (0, 1) ∧ eX1_takeFrom ret F n 19 [v0, v1] (va_rf (h.2.2.2.1 a 1) :: []) h 0 0) := (amWp_dec rfl dX1_takeFrom_16 rfl).trans (amS4 (Nat.le_of_ble_eq_true rfl) (Nat.le_of_ble_eq_true rfl) (Nat.le_of_ble_eq_true rfl) (Nat.le_of_ble_eq_true rfl))
theorem wX1_takeFrom_19 {ret F n h} {v0 v1 st} : eX1_takeFrom ret F (n + 1) 19 [v0, v1] (st) h 0 0 = (eX1_takeFrom ret F n 20 [v0, v1] (.int (nI 0) :: st) h 0 0) := (amWp_dec rfl dX1_takeFrom_19 rfl).trans rfl
theorem wX1_takeFrom_20 {ret F n h} {v0 v1 st} : eX1_takeFrom ret F (n + 1) 20 [v0, v1] (st) h 0 0 = (amIsR v0 ∧ eX1_takeFrom ret F n 21 [v0, v1] (v0 :: st) h 0 0) := (amWp_dec rfl dX1_takeFrom_20 rfl).trans rfl
theorem wX1_takeFrom_21 {ret F n h} {v0 v1 r0 r1 a} : eX1_takeFrom ret F (n + 1) 21 [v0, v1] (.ref a :: r0 :: r1 :: []) h 0 0 = (h.1 a = (0, 1) ∧ eX1_takeFrom ret F n 24 [v0, v1] (va_rf (h.2.2.2.1 a 1) :: r0 :: r1 :: []) h 0 0) := (amWp_dec rfl dX1_takeFrom_21 rfl).trans (amS4 (Nat.le_of_ble_eq_true rfl) (Nat.le_of_ble_eq_true rfl) (Nat.le_of_ble_eq_true rfl) (Nat.le_of_ble_eq_true rfl))
theorem wX1_takeFrom_24 {ret F n h} {v0 v1 st} : eX1_takeFrom ret F (n + 1) 24 [v0, v1] (st) h 0 0 = (eX1_takeFrom ret F n 25 [v0, v1] (.int (nI 0) :: st) h 0 0) := (amWp_dec rfl dX1_takeFrom_24 rfl).trans rfl
theorem wX1_takeFrom_25 {ret F n h} {v0 v1 st} : eX1_takeFrom ret F (n + 1) 25 [v0, v1] (st) h 0 0 = (eX1_takeFrom ret F n 27 [v0, v1] (.int (nI 7) :: st) h 0 0) := (amWp_dec rfl dX1_takeFrom_25 rfl).trans rfl
theorem wX1_takeFrom_27 {ret F n h} {v0 v1 x4 x3 x2 x1 x0} : eX1_takeFrom ret F (n + 1) 27 [v0, v1] (.int x4 :: .int x3 :: .ref x2 :: .int x1 :: .ref x0 :: []) h 0 0 = (amTcpI [.ref x0, .int x1, .ref x2, .int x3, .int x4] h (fun v h => eX1_takeFrom ret F n 30 [v0, v1] (v.toList ++ ([])) h 0 0)) := (amWp_dec rfl dX1_takeFrom_27 rfl).trans (amS4 (Nat.le_of_ble_eq_true rfl) (Nat.le_of_ble_eq_true rfl) (Nat.le_of_ble_eq_true rfl) (Nat.le_of_ble_eq_true rfl))
theorem wX1_takeFrom_30 {ret F n h} {v0 v1 st} : eX1_takeFrom ret F (n + 1) 30 [v0, v1] (st) h 0 0 = (amIsR v0 ∧ eX1_takeFrom ret F n 31 [v0, v1] (v0 :: st) h 0 0) := (amWp_dec rfl dX1_takeFrom_30 rfl).trans rfl
theorem wX1_takeFrom_31 {ret F n h} {v0 v1 a} : eX1_takeFrom ret F (n + 1) 31 [v0, v1] (.ref a :: []) h 0 0 = (h.1 a = (0, 1) ∧ eX1_takeFrom ret F n 34 [v0, v1] (va_rf (h.2.2.2.1 a 2) :: []) h 0 0) := (amWp_dec rfl dX1_takeFrom_31 rfl).trans (amS4 (Nat.le_of_ble_eq_true rfl) (Nat.le_of_ble_eq_true rfl) (Nat.le_of_ble_eq_true rfl) (Nat.le_of_ble_eq_true rfl))
theorem wX1_takeFrom_34 {ret F n h} {v0 v1 st} : eX1_takeFrom ret F (n + 1) 34 [v0, v1] (st) h 0 0 = (amIsR v1 ∧ eX1_takeFrom ret F n 35 [v0, v1] (v1 :: st) h 0 0) := (amWp_dec rfl dX1_takeFrom_34 rfl).trans rfl
theorem wX1_takeFrom_35 {ret F n h} {v0 v1 r0 a} : eX1_takeFrom ret F (n + 1) 35 [v0, v1] (.ref a :: r0 :: []) h 0 0 = (h.1 a = (0, 1) ∧ eX1_takeFrom ret F n 38 [v0, v1] (va_rf (h.2.2.2.1 a 2) :: r0 :: []) h 0 0) := (amWp_dec rfl dX1_takeFrom_35 rfl).trans (amS4 (Nat.le_of_ble_eq_true rfl) (Nat.le_of_ble_eq_true rfl) (Nat.le_of_ble_eq_true rfl) (Nat.le_of_ble_eq_true rfl))
theorem wX1_takeFrom_38 {ret F n h} {v0 v1 x1 x0} : eX1_takeFrom ret F (n + 1) 38 [v0, v1] (.ref x1 :: .ref x0 :: []) h 0 0 = (h.1 x0 = (0, 2) ∧ tX2_takeFrom [.ref x0, .ref x1] h (fun v h => eX1_takeFrom ret F n 41 [v0, v1] (v.toList ++ ([])) h 0 0)) := (amWp_dec rfl dX1_takeFrom_38 rfl).trans (amS4 (Nat.le_of_ble_eq_true rfl) (Nat.le_of_ble_eq_true rfl) (Nat.le_of_ble_eq_true rfl) (Nat.le_of_ble_eq_true rfl))
theorem wX1_takeFrom_41 {ret F n h} {v0 v1 st} : eX1_takeFrom ret F (n + 1) 41 [v0, v1] (st) h 0 0 = (amIsR v0 ∧ eX1_takeFrom ret F n 42 [v0, v1] (v0 :: st) h 0 0) := (amWp_dec rfl dX1_takeFrom_41 rfl).trans rfl
theorem wX1_takeFrom_42 {ret F n h} {v0 v1 st} : eX1_takeFrom ret F (n + 1) 42 [v0, v1] (st) h 0 0 = (amIsR v1 ∧ eX1_takeFrom ret F n 43 [v0, v1] (v1 :: st) h 0 0) := (amWp_dec rfl dX1_takeFrom_42 rfl).trans rfl
theorem wX1_takeFrom_43 {ret F n h} {v0 v1 r0 a} : eX1_takeFrom ret F (n + 1) 43 [v0, v1] (.ref a :: r0 :: []) h 0 0 = (h.1 a = (0, 1) ∧ eX1_takeFrom ret F n 46 [v0, v1] (.int (h.2.1 a 3) :: r0 :: []) h 0 0) := (amWp_dec rfl dX1_takeFrom_43 rfl).trans (amS4 (Nat.le_of_ble_eq_true rfl) (Nat.le_of_ble_eq_true rfl) (Nat.le_of_ble_eq_true rfl) (Nat.le_of_ble_eq_true rfl))
theorem wX1_takeFrom_46 {ret F n h} {v0 v1 x a} : eX1_takeFrom ret F (n + 1) 46 [v0, v1] (.int x :: .ref a :: []) h 0 0 = (h.1 a = (0, 1) ∧ amN0 ≤ a ∧ amFit .int (.int x) ∧ eX1_takeFrom ret F n 49 [v0, v1] ([]) (amSI h (amU h.2.1 a 3 x)) 0 0) := (amWp_dec rfl dX1_takeFrom_46 rfl).trans (amS4 (Nat.le_of_ble_eq_true rfl) (Nat.le_of_ble_eq_true rfl) (Nat.le_of_ble_eq_true rfl) (Nat.le_of_ble_eq_true rfl))
theorem wX1_takeFrom_49 {ret F n h} {v0 v1 st} : eX1_takeFrom ret F (n + 1) 49 [v0, v1] (st) h 0 0 = (amIsR v0 ∧ eX1_takeFrom ret F n 50 [v0, v1] (v0 :: st) h 0 0) := (amWp_dec rfl dX1_takeFrom_49 rfl).trans rfl
theorem wX1_takeFrom_50 {ret F n h} {v0 v1 st} : eX1_takeFrom ret F (n + 1) 50 [v0, v1] (st) h 0 0 = (amIsR v1 ∧ eX1_takeFrom ret F n 51 [v0, v1] (v1 :: st) h 0 0) := (amWp_dec rfl dX1_takeFrom_50 rfl).trans rfl
theorem wX1_takeFrom_51 {ret F n h} {v0 v1 r0 a} : eX1_takeFrom ret F (n + 1) 51 [v0, v1] (.ref a :: r0 :: []) h 0 0 = (h.1 a = (0, 1) ∧ eX1_takeFrom ret F n 54 [v0, v1] (.int (h.2.1 a 4) :: r0 :: []) h 0 0) := (amWp_dec rfl dX1_takeFrom_51 rfl).trans (amS4 (Nat.le_of_ble_eq_true rfl) (Nat.le_of_ble_eq_true rfl) (Nat.le_of_ble_eq_true rfl) (Nat.le_of_ble_eq_true rfl))
theorem wX1_takeFrom_54 {ret F n h} {v0 v1 x a} : eX1_takeFrom ret F (n + 1) 54 [v0, v1] (.int x :: .ref a :: []) h 0 0 = (h.1 a = (0, 1) ∧ amN0 ≤ a ∧ amFit .int (.int x) ∧ eX1_takeFrom ret F n 57 [v0, v1] ([]) (amSI h (amU h.2.1 a 4 x)) 0 0) := (amWp_dec rfl dX1_takeFrom_54 rfl).trans (amS4 (Nat.le_of_ble_eq_true rfl) (Nat.le_of_ble_eq_true rfl) (Nat.le_of_ble_eq_true rfl) (Nat.le_of_ble_eq_true rfl))
theorem wX1_takeFrom_57 {ret F n h} {v0 v1 st} : eX1_takeFrom ret F (n + 1) 57 [v0, v1] (st) h 0 0 = (amIsR v0 ∧ eX1_takeFrom ret F n 58 [v0, v1] (v0 :: st) h 0 0) := (amWp_dec rfl dX1_takeFrom_57 rfl).trans rfl
theorem wX1_takeFrom_58 {ret F n h} {v0 v1 st} : eX1_takeFrom ret F (n + 1) 58 [v0, v1] (st) h 0 0 = (amIsR v1 ∧ eX1_takeFrom ret F n 59 [v0, v1] (v1 :: st) h 0 0) := (amWp_dec rfl dX1_takeFrom_58 rfl).trans rfl
theorem wX1_takeFrom_59 {ret F n h} {v0 v1 r0 a} : eX1_takeFrom ret F (n + 1) 59 [v0, v1] (.ref a :: r0 :: []) h 0 0 = (h.1 a = (0, 1) ∧ eX1_takeFrom ret F n 62 [v0, v1] (.int (h.2.1 a 5) :: r0 :: []) h 0 0) := (amWp_dec rfl dX1_takeFrom_59 rfl).trans (amS4 (Nat.le_of_ble_eq_true rfl) (Nat.le_of_ble_eq_true rfl) (Nat.le_of_ble_eq_true rfl) (Nat.le_of_ble_eq_true rfl))
theorem wX1_takeFrom_62 {ret F n h} {v0 v1 x a} : eX1_takeFrom ret F (n + 1) 62 [v0, v1] (.int x :: .ref a :: []) h 0 0 = (h.1 a = (0, 1) ∧ amN0 ≤ a ∧ amFit .int (.int x) ∧ eX1_takeFrom ret F n 65 [v0, v1] ([]) (amSI h (amU h.2.1 a 5 x)) 0 0) := (amWp_dec rfl dX1_takeFrom_62 rfl).trans (amS4 (Nat.le_of_ble_eq_true rfl) (Nat.le_of_ble_eq_true rfl) (Nat.le_of_ble_eq_true rfl) (Nat.le_of_ble_eq_true rfl))
theorem wX1_takeFrom_65 {ret F n h} {v0 v1 st} : eX1_takeFrom ret F (n + 1) 65 [v0, v1] (st) h 0 0 = (amIsR v0 ∧ eX1_takeFrom ret F n 66 [v0, v1] (v0 :: st) h 0 0) := (amWp_dec rfl dX1_takeFrom_65 rfl).trans rfl
theorem wX1_takeFrom_66 {ret F n h} {v0 v1 st} : eX1_takeFrom ret F (n + 1) 66 [v0, v1] (st) h 0 0 = (amIsR v1 ∧ eX1_takeFrom ret F n 67 [v0, v1] (v1 :: st) h 0 0) := (amWp_dec rfl dX1_takeFrom_66 rfl).trans rfl
theorem wX1_takeFrom_67 {ret F n h} {v0 v1 r0 a} : eX1_takeFrom ret F (n + 1) 67 [v0, v1] (.ref a :: r0 :: []) h 0 0 = (h.1 a = (0, 1) ∧ eX1_takeFrom ret F n 70 [v0, v1] (.int (h.2.1 a 6) :: r0 :: []) h 0 0) := (amWp_dec rfl dX1_takeFrom_67 rfl).trans (amS4 (Nat.le_of_ble_eq_true rfl) (Nat.le_of_ble_eq_true rfl) (Nat.le_of_ble_eq_true rfl) (Nat.le_of_ble_eq_true rfl))
theorem wX1_takeFrom_70 {ret F n h} {v0 v1 x a} : eX1_takeFrom ret F (n + 1) 70 [v0, v1] (.int x :: .ref a :: []) h 0 0 = (h.1 a = (0, 1) ∧ amN0 ≤ a ∧ amFit .int (.int x) ∧ eX1_takeFrom ret F n 73 [v0, v1] ([]) (amSI h (amU h.2.1 a 6 x)) 0 0) := (amWp_dec rfl dX1_takeFrom_70 rfl).trans (amS4 (Nat.le_of_ble_eq_true rfl) (Nat.le_of_ble_eq_true rfl) (Nat.le_of_ble_eq_true rfl) (Nat.le_of_ble_eq_true rfl))
theorem wX1_takeFrom_73 {ret F n h} {v0 v1 st} : eX1_takeFrom ret F (n + 1) 73 [v0, v1] (st) h 0 0 = (amIsR v0 ∧ eX1_takeFrom ret F n 74 [v0, v1] (v0 :: st) h 0 0) := (amWp_dec rfl dX1_takeFrom_73 rfl).trans rfl
theorem wX1_takeFrom_74 {ret F n h} {v0 v1 st} : eX1_takeFrom ret F (n + 1) 74 [v0, v1] (st) h 0 0 = (amIsR v1 ∧ eX1_takeFrom ret F n 75 [v0, v1] (v1 :: st) h 0 0) := (amWp_dec rfl dX1_takeFrom_74 rfl).trans rfl
theorem wX1_takeFrom_75 {ret F n h} {v0 v1 r0 a} : eX1_takeFrom ret F (n + 1) 75 [v0, v1] (.ref a :: r0 :: []) h 0 0 = (h.1 a = (0, 1) ∧ eX1_takeFrom ret F n 78 [v0, v1] (.int (h.2.1 a 7) :: r0 :: []) h 0 0) := (amWp_dec rfl dX1_takeFrom_75 rfl).trans (amS4 (Nat.le_of_ble_eq_true rfl) (Nat.le_of_ble_eq_true rfl) (Nat.le_of_ble_eq_true rfl) (Nat.le_of_ble_eq_true rfl))
theorem wX1_takeFrom_78 {ret F n h} {v0 v1 x a} : eX1_takeFrom ret F (n + 1) 78 [v0, v1] (.int x :: .ref a :: []) h 0 0 = (h.1 a = (0, 1) ∧ amN0 ≤ a ∧ amFit .int (.int x) ∧ eX1_takeFrom ret F n 81 [v0, v1] ([]) (amSI h (amU h.2.1 a 7 x)) 0 0) := (amWp_dec rfl dX1_takeFrom_78 rfl).trans (amS4 (Nat.le_of_ble_eq_true rfl) (Nat.le_of_ble_eq_true rfl) (Nat.le_of_ble_eq_true rfl) (Nat.le_of_ble_eq_true rfl))
theorem wX1_takeFrom_81 {ret F n h} {v0 v1} : eX1_takeFrom ret F (n + 1) 81 [v0, v1] ([]) h 0 0 = (ret none h 0 0) := (amWp_dec rfl dX1_takeFrom_81 rfl).trans (amTrue rfl)
theorem evX1_takeFrom (l : Launch) (G : amG) : ∀ pc S i sz, amLk rX1_takeFrom pc = some S → decode cX1_takeFrom pc = .ok (i, sz) → amSiteP pc G l yX1_takeFrom.cls yX1_takeFrom.name yX1_takeFrom.desc (amRm 2 0 0) i sz S.1 S.2.1 S.2.2.1 S.2.2.2 := amLk_ok (by
  refine List.forall_mem_cons.mpr ⟨⟨_, _, dX1_takeFrom_1, amSite.P (amSiteGet ⟨_, rfl, by decide, Or.inl q146⟩)⟩, ?_⟩
  refine List.forall_mem_cons.mpr ⟨⟨_, _, dX1_takeFrom_6, amSite.P (amSiteGet ⟨_, rfl, by decide, Or.inl q146⟩)⟩, ?_⟩
  refine List.forall_mem_cons.mpr ⟨⟨_, _, dX1_takeFrom_12, amSite.P (amSiteCpI rfl (by decide) q890 q473 q472 q95)⟩, ?_⟩
  refine List.forall_mem_cons.mpr ⟨⟨_, _, dX1_takeFrom_16, amSite.P (amSiteGet ⟨_, rfl, by decide, Or.inl q148⟩)⟩, ?_⟩
  refine List.forall_mem_cons.mpr ⟨⟨_, _, dX1_takeFrom_21, amSite.P (amSiteGet ⟨_, rfl, by decide, Or.inl q148⟩)⟩, ?_⟩
  refine List.forall_mem_cons.mpr ⟨⟨_, _, dX1_takeFrom_27, amSite.P (amSiteCpI rfl (by decide) q890 q473 q472 q95)⟩, ?_⟩
  refine List.forall_mem_cons.mpr ⟨⟨_, _, dX1_takeFrom_31, amSite.P (amSiteGet ⟨_, rfl, by decide, Or.inl q150⟩)⟩, ?_⟩
  refine List.forall_mem_cons.mpr ⟨⟨_, _, dX1_takeFrom_35, amSite.P (amSiteGet ⟨_, rfl, by decide, Or.inl q150⟩)⟩, ?_⟩
  refine List.forall_mem_cons.mpr ⟨⟨_, _, dX1_takeFrom_38, amSite.P (amSiteV (C := RX2) (metX2_takeFrom l G) rfl (by decide) (by decide) (lw_V q891 q468 q469 q88 q470) ⟨_, rfl, rfl⟩ ⟨rfl, by decide +kernel, by decide +kernel, by decide +kernel⟩)⟩, ?_⟩
  refine List.forall_mem_cons.mpr ⟨⟨_, _, dX1_takeFrom_43, amSite.P (amSiteGet ⟨_, rfl, by decide, Or.inl q152⟩)⟩, ?_⟩
  refine List.forall_mem_cons.mpr ⟨⟨_, _, dX1_takeFrom_46, amSite.P (amSitePut ⟨_, rfl, by decide, Or.inl q152⟩ (fun q h => by cases h; rfl))⟩, ?_⟩
  refine List.forall_mem_cons.mpr ⟨⟨_, _, dX1_takeFrom_51, amSite.P (amSiteGet ⟨_, rfl, by decide, Or.inl q154⟩)⟩, ?_⟩
  refine List.forall_mem_cons.mpr ⟨⟨_, _, dX1_takeFrom_54, amSite.P (amSitePut ⟨_, rfl, by decide, Or.inl q154⟩ (fun q h => by cases h; rfl))⟩, ?_⟩
  refine List.forall_mem_cons.mpr ⟨⟨_, _, dX1_takeFrom_59, amSite.P (amSiteGet ⟨_, rfl, by decide, Or.inl q156⟩)⟩, ?_⟩
  refine List.forall_mem_cons.mpr ⟨⟨_, _, dX1_takeFrom_62, amSite.P (amSitePut ⟨_, rfl, by decide, Or.inl q156⟩ (fun q h => by cases h; rfl))⟩, ?_⟩
  refine List.forall_mem_cons.mpr ⟨⟨_, _, dX1_takeFrom_67, amSite.P (amSiteGet ⟨_, rfl, by decide, Or.inl q158⟩)⟩, ?_⟩
  refine List.forall_mem_cons.mpr ⟨⟨_, _, dX1_takeFrom_70, amSite.P (amSitePut ⟨_, rfl, by decide, Or.inl q158⟩ (fun q h => by cases h; rfl))⟩, ?_⟩
  refine List.forall_mem_cons.mpr ⟨⟨_, _, dX1_takeFrom_75, amSite.P (amSiteGet ⟨_, rfl, by decide, Or.inl q160⟩)⟩, ?_⟩
  refine List.forall_mem_cons.mpr ⟨⟨_, _, dX1_takeFrom_78, amSite.P (amSitePut ⟨_, rfl, by decide, Or.inl q160⟩ (fun q h => by cases h; rfl))⟩, ?_⟩
  exact fun _ h => absurd h List.not_mem_nil)
theorem goX1_takeFrom {ret F} (hF : amCld cX1_takeFrom kX1_takeFrom (amLk rX1_takeFrom) none 0 0 ret F) (n : Nat) {pc ls st h k z} (q : sX1_takeFrom ret F n pc ls st h k z) : F pc ls st h k z := hF.1 n pc ls st h k z q
theorem metX1_takeFrom (l : Launch) (G : amG) : amMet l G yX1_takeFrom (ws_ yX1_takeFrom cX1_takeFrom 2 none) 2 0 0 tX1_takeFrom := by
  refine amMet_of (cut := kX1_takeFrom) (by decide +kernel) (evX1_takeFrom l G) ?_
  intro as h K hT
  match as, hT with
  | [.ref a, .ref c], ⟨S, ⟨h1, h2, h3, h4, h5, h6, h7⟩, ⟨g1, g2, g3, g4, g5, g6, g7⟩, hN, hd, hS, hK⟩ =>
  refine ⟨Nat.le_of_ble_eq_true rfl, fun F hF => ?_⟩
  show F 0 [.ref a, .ref c] [] h 0 0
  obtain ⟨a, rfl⟩ : ∃ i : Nat, i = a := ⟨_, rfl⟩
  obtain ⟨c, rfl⟩ : ∃ i : Nat, i = c := ⟨_, rfl⟩
  have hd : a + 5 ≤ c ∨ c + 5 ≤ a := hd
  have n1 : amN0 ≤ a + 1 := by omega
  have n2 : amN0 ≤ a + 2 := by omega
  have n3 : amN0 ≤ a + 3 := by omega
  have n4 : (c + 3 = a + 3 + 1) = False := eq_false (by omega)
  refine goX1_takeFrom hF 60 ?_
  simp (disch := omega) only [wX1_takeFrom_0, uX1_takeFrom_0, wX1_takeFrom_1, wX1_takeFrom_4, wX1_takeFrom_5, wX1_takeFrom_6, wX1_takeFrom_9, wX1_takeFrom_10, wX1_takeFrom_12, wX1_takeFrom_15, wX1_takeFrom_16, wX1_takeFrom_19, wX1_takeFrom_20, wX1_takeFrom_21, wX1_takeFrom_24, wX1_takeFrom_25, wX1_takeFrom_27, wX1_takeFrom_30, wX1_takeFrom_31, wX1_takeFrom_34, wX1_takeFrom_35, wX1_takeFrom_38, wX1_takeFrom_41, wX1_takeFrom_42, wX1_takeFrom_43, wX1_takeFrom_46, wX1_takeFrom_49, wX1_takeFrom_50, wX1_takeFrom_51, wX1_takeFrom_54, wX1_takeFrom_57, wX1_takeFrom_58, wX1_takeFrom_59, wX1_takeFrom_62, wX1_takeFrom_65, wX1_takeFrom_66, wX1_takeFrom_67, wX1_takeFrom_70, wX1_takeFrom_73, wX1_takeFrom_74, wX1_takeFrom_75, wX1_takeFrom_78, wX1_takeFrom_81, amSI_1, amSI_2, amSI_3, amSI_s, amU_at, amIsR_ref, amIsR_null, amIsR_rf, amRf_some, amRf_none, amClr_int, amClr_ref, amClr_null, amClr_long, amClr_ra, amClr_rf, amFit_int, amFit_oref, amFit_aref, amFit_onull, amFit_anull, amOptSome, amOptNone, List.cons_append, List.nil_append, true_and, and_true, true_implies, not_true_eq_false, not_false_eq_true, false_implies, and_self, Nat.add_zero, Nat.zero_add, ne_eq, Prod.mk.injEq, amC01_0, amC01_1, amC01_nb, amNb0, amNb1, amTcpI_d, Nat.reduceLeDiff, Nat.reduceAdd, Nat.reduceSub, Nat.reduceEqDiff, Nat.le_refl, amN0le, h1, h2, h3, h4, h5, h6, g1, g2, g3, g4, g5, g6, hN, n1, n2, n3, n4, amCl_nI, amNotPosI, tX2_takeFrom_d, bdAt, h7.1, h7.2.1, h7.2.2, g7.1, g7.2.1, g7.2.2]
  refine amRet.of (by decide) (by decide) (hK _ ?_ ?_)
  · refine HsIs.mk ⟨hS.ord.1, hS.ord.2.1, ?_, ?_⟩ hS.ls hS.la ?_ ?_ ?_ ?_ ?_ ?_ ?_ hS.ba
    · simp (disch := omega) only [amU_at, amU_ne, amU_nj, bdCopy, up_ne, up_at]
      exact hS.many
    · intro i hi
      have := hS.n7
      simp (disch := omega) only [amU_at, amU_ne, amU_nj, bdCopy, up_ne, up_at, sb_cpy0]
      exact hS.ord.2.2.2 i hi
    · intro i hi
      have := hS.n7
      simp (disch := omega) only [amU_at, amU_ne, amU_nj, bdCopy, up_ne, up_at, sb_cpy0]
      exact hS.sets i hi
    · intro i hi
      have := hS.n7
      simp (disch := omega) only [amU_at, amU_ne, amU_nj, bdCopy, up_ne, up_at, sb_cpy0]
      exact hS.ahead i hi
    · simp (disch := omega) only [amU_at, amU_ne, amU_nj, bdCopy, up_ne, up_at]
      exact hS.prior
    · simp (disch := omega) only [amU_at, amU_ne, amU_nj, bdCopy, up_ne, up_at]
      exact hS.span
    · simp (disch := omega) only [amU_at, amU_ne, amU_nj, bdCopy, up_ne, up_at]
      exact hS.bound
    · simp (disch := omega) only [amU_at, amU_ne, amU_nj, bdCopy, up_ne, up_at]
      exact hS.rule
    · simp (disch := omega) only [amU_at, amU_ne, amU_nj, bdCopy, up_ne, up_at]
      exact hS.draw
  · intro i hi
    simp (disch := omega) only [amU_neR, bdCopy, up_ne]
/-- a book more -/
def HS.add (S : HS) (x : Nat) : HS := (S.ord ++ [S.ord.length], S.sets ++ [x], S.ahead ++ [0], S.prior, S.span, S.bound, S.rule, S.draw)
theorem app_getD {l : List Nat} {x i : Nat} : (l ++ [x]).getD i 0 = if i < l.length then l.getD i 0 else if i = l.length then x else 0 := by
  by_cases h : i < l.length
  · rw [if_pos h, List.getD_eq_getElem?_getD, List.getElem?_append_left h, List.getD_eq_getElem?_getD]
  · rw [if_neg h]
    by_cases h2 : i = l.length
    · rw [if_pos h2, h2]; simp
    · rw [if_neg h2]; simp [List.getD_eq_getElem?_getD, List.getElem?_append_right (by omega : l.length ≤ i), show i - l.length ≠ 0 by omega]
def tX1_add : amT := fun as h K => match as with
  | [.ref a, .int x] => ∃ (S : HS) (v : Nat), x = nI v ∧ hsAt h a ∧ amN0 ≤ a ∧ HsIs h.2.1 a S ∧ S.ord.length < 7 ∧ ∀ m', HsIs m' a (S.add v) → hsFr h.2.1 m' a → K none (amSI h m')
  | _ => False
/-! ReadingStages$House.add(I)V -/
def kX1_add : Nat → Bool := fun pc => pc == 35
def rX1_add : List (Nat × amS) := [(1, 1, 0, 0, amTget 1 0), (5, 1, 0, 0, (amRecv 1 tX1_many)), (11, 1, 0, 0, amTget 1 1), (15, 1, 0, 0, (amRecv 1 tX1_many)), (21, 1, 0, 0, amTget 1 2), (25, 1, 0, 0, (amRecv 1 tX1_many)), (29, 1, 0, 0, (amRecv 1 tX1_many)), (32, 3, 0, 0, (amRecv 2 tX2_put))]
def eX1_add (ret : Option Value → amH → Nat → Nat → Prop) (F : amX) : Nat → amX := amWp cX1_add kX1_add (amLk rX1_add) none 0 0 ret F
def sX1_add (ret : Option Value → amH → Nat → Nat → Prop) (F : amX) : Nat → amX := amWs cX1_add kX1_add (amLk rX1_add) none 0 0 ret F
theorem wX1_add_0 {ret F n h} {v0 v1 st} : eX1_add ret F (n + 1) 0 [v0, v1] (st) h 0 0 = (amIsR v0 ∧ eX1_add ret F n 1 [v0, v1] (v0 :: st) h 0 0) := (amWp_dec rfl dX1_add_0 rfl).trans rfl
theorem uX1_add_0 {ret F n h} {v0 v1 st} : sX1_add ret F n 0 [v0, v1] (st) h 0 0 = (amIsR v0 ∧ eX1_add ret F n 1 [v0, v1] (v0 :: st) h 0 0) := (amWs_dec dX1_add_0 rfl).trans rfl
theorem wX1_add_1 {ret F n h} {v0 v1 a} : eX1_add ret F (n + 1) 1 [v0, v1] (.ref a :: []) h 0 0 = (h.1 a = (0, 1) ∧ eX1_add ret F n 4 [v0, v1] (va_rf (h.2.2.2.1 a 0) :: []) h 0 0) := (amWp_dec rfl dX1_add_1 rfl).trans (amS4 (Nat.le_of_ble_eq_true rfl) (Nat.le_of_ble_eq_true rfl) (Nat.le_of_ble_eq_true rfl) (Nat.le_of_ble_eq_true rfl))
theorem wX1_add_4 {ret F n h} {v0 v1 st} : eX1_add ret F (n + 1) 4 [v0, v1] (st) h 0 0 = (amIsR v0 ∧ eX1_add ret F n 5 [v0, v1] (v0 :: st) h 0 0) := (amWp_dec rfl dX1_add_4 rfl).trans rfl
theorem wX1_add_5 {ret F n h} {v0 v1 x0 r0} : eX1_add ret F (n + 1) 5 [v0, v1] (.ref x0 :: r0 :: []) h 0 0 = (h.1 x0 = (0, 1) ∧ tX1_many [.ref x0] h (fun v h => eX1_add ret F n 8 [v0, v1] (v.toList ++ (r0 :: [])) h 0 0)) := (amWp_dec rfl dX1_add_5 rfl).trans (amS4 (Nat.le_of_ble_eq_true rfl) (Nat.le_of_ble_eq_true rfl) (Nat.le_of_ble_eq_true rfl) (Nat.le_of_ble_eq_true rfl))
theorem wX1_add_8 {ret F n h} {v0 st x} : eX1_add ret F (n + 1) 8 [v0, .int x] (st) h 0 0 = (eX1_add ret F n 9 [v0, .int x] (.int x :: st) h 0 0) := (amWp_dec rfl dX1_add_8 rfl).trans rfl
theorem wX1_add_9 {ret F n h} {v0 v1 st y x a} : eX1_add ret F (n + 1) 9 [v0, v1] (.int y :: .int x :: .ref a :: st) h 0 0 = ((h.1 a).1 = 1 ∧ vp_in x (h.1 a).2 ∧ amN0 ≤ a ∧ eX1_add ret F n 10 [v0, v1] (st) (amSI h (amU h.2.1 a x.toNatClampNeg y)) 0 0) := (amWp_dec rfl dX1_add_9 rfl).trans rfl
theorem wX1_add_10 {ret F n h} {v0 v1 st} : eX1_add ret F (n + 1) 10 [v0, v1] (st) h 0 0 = (amIsR v0 ∧ eX1_add ret F n 11 [v0, v1] (v0 :: st) h 0 0) := (amWp_dec rfl dX1_add_10 rfl).trans rfl
theorem wX1_add_11 {ret F n h} {v0 v1 a} : eX1_add ret F (n + 1) 11 [v0, v1] (.ref a :: []) h 0 0 = (h.1 a = (0, 1) ∧ eX1_add ret F n 14 [v0, v1] (va_rf (h.2.2.2.1 a 1) :: []) h 0 0) := (amWp_dec rfl dX1_add_11 rfl).trans (amS4 (Nat.le_of_ble_eq_true rfl) (Nat.le_of_ble_eq_true rfl) (Nat.le_of_ble_eq_true rfl) (Nat.le_of_ble_eq_true rfl))
theorem wX1_add_14 {ret F n h} {v0 v1 st} : eX1_add ret F (n + 1) 14 [v0, v1] (st) h 0 0 = (amIsR v0 ∧ eX1_add ret F n 15 [v0, v1] (v0 :: st) h 0 0) := (amWp_dec rfl dX1_add_14 rfl).trans rfl
theorem wX1_add_15 {ret F n h} {v0 v1 x0 r0} : eX1_add ret F (n + 1) 15 [v0, v1] (.ref x0 :: r0 :: []) h 0 0 = (h.1 x0 = (0, 1) ∧ tX1_many [.ref x0] h (fun v h => eX1_add ret F n 18 [v0, v1] (v.toList ++ (r0 :: [])) h 0 0)) := (amWp_dec rfl dX1_add_15 rfl).trans (amS4 (Nat.le_of_ble_eq_true rfl) (Nat.le_of_ble_eq_true rfl) (Nat.le_of_ble_eq_true rfl) (Nat.le_of_ble_eq_true rfl))
theorem wX1_add_18 {ret F n h} {v0 v1 st} : eX1_add ret F (n + 1) 18 [v0, v1] (st) h 0 0 = (eX1_add ret F n 19 [v0, v1] (.int (nI 0) :: st) h 0 0) := (amWp_dec rfl dX1_add_18 rfl).trans rfl
theorem wX1_add_19 {ret F n h} {v0 v1 st y x a} : eX1_add ret F (n + 1) 19 [v0, v1] (.int y :: .int x :: .ref a :: st) h 0 0 = ((h.1 a).1 = 2 ∧ vp_in x (h.1 a).2 ∧ amN0 ≤ a ∧ eX1_add ret F n 20 [v0, v1] (st) (amSI h (amU h.2.1 a x.toNatClampNeg (vp_nar .byte y))) 0 0) := (amWp_dec rfl dX1_add_19 rfl).trans rfl
theorem wX1_add_20 {ret F n h} {v0 v1 st} : eX1_add ret F (n + 1) 20 [v0, v1] (st) h 0 0 = (amIsR v0 ∧ eX1_add ret F n 21 [v0, v1] (v0 :: st) h 0 0) := (amWp_dec rfl dX1_add_20 rfl).trans rfl
theorem wX1_add_21 {ret F n h} {v0 v1 a} : eX1_add ret F (n + 1) 21 [v0, v1] (.ref a :: []) h 0 0 = (h.1 a = (0, 1) ∧ eX1_add ret F n 24 [v0, v1] (va_rf (h.2.2.2.1 a 2) :: []) h 0 0) := (amWp_dec rfl dX1_add_21 rfl).trans (amS4 (Nat.le_of_ble_eq_true rfl) (Nat.le_of_ble_eq_true rfl) (Nat.le_of_ble_eq_true rfl) (Nat.le_of_ble_eq_true rfl))
theorem wX1_add_24 {ret F n h} {v0 v1 st} : eX1_add ret F (n + 1) 24 [v0, v1] (st) h 0 0 = (amIsR v0 ∧ eX1_add ret F n 25 [v0, v1] (v0 :: st) h 0 0) := (amWp_dec rfl dX1_add_24 rfl).trans rfl
theorem wX1_add_25 {ret F n h} {v0 v1 x0 r0} : eX1_add ret F (n + 1) 25 [v0, v1] (.ref x0 :: r0 :: []) h 0 0 = (h.1 x0 = (0, 1) ∧ tX1_many [.ref x0] h (fun v h => eX1_add ret F n 28 [v0, v1] (v.toList ++ (r0 :: [])) h 0 0)) := (amWp_dec rfl dX1_add_25 rfl).trans (amS4 (Nat.le_of_ble_eq_true rfl) (Nat.le_of_ble_eq_true rfl) (Nat.le_of_ble_eq_true rfl) (Nat.le_of_ble_eq_true rfl))
theorem wX1_add_28 {ret F n h} {v0 v1 st} : eX1_add ret F (n + 1) 28 [v0, v1] (st) h 0 0 = (amIsR v0 ∧ eX1_add ret F n 29 [v0, v1] (v0 :: st) h 0 0) := (amWp_dec rfl dX1_add_28 rfl).trans rfl
theorem wX1_add_29 {ret F n h} {v0 v1 x0 r0 r1} : eX1_add ret F (n + 1) 29 [v0, v1] (.ref x0 :: r0 :: r1 :: []) h 0 0 = (h.1 x0 = (0, 1) ∧ tX1_many [.ref x0] h (fun v h => eX1_add ret F n 32 [v0, v1] (v.toList ++ (r0 :: r1 :: [])) h 0 0)) := (amWp_dec rfl dX1_add_29 rfl).trans (amS4 (Nat.le_of_ble_eq_true rfl) (Nat.le_of_ble_eq_true rfl) (Nat.le_of_ble_eq_true rfl) (Nat.le_of_ble_eq_true rfl))
theorem wX1_add_32 {ret F n h} {v0 v1 x2 x1 x0} : eX1_add ret F (n + 1) 32 [v0, v1] (.int x2 :: .int x1 :: .ref x0 :: []) h 0 0 = (h.1 x0 = (0, 2) ∧ tX2_put [.ref x0, .int x1, .int x2] h (fun v h => eX1_add ret F n 35 [v0, v1] (v.toList ++ ([])) h 0 0)) := (amWp_dec rfl dX1_add_32 rfl).trans (amS4 (Nat.le_of_ble_eq_true rfl) (Nat.le_of_ble_eq_true rfl) (Nat.le_of_ble_eq_true rfl) (Nat.le_of_ble_eq_true rfl))
theorem wX1_add_35 {ret F n ls st h k z} : eX1_add ret F (n + 1) 35 ls st h k z = F 35 ls st h k z := amWp_cut rfl
theorem uX1_add_35 {ret F n h} {v0 v1} : sX1_add ret F n 35 [v0, v1] ([]) h 0 0 = (ret none h 0 0) := (amWs_dec dX1_add_35 rfl).trans (amTrue rfl)
theorem evX1_add (l : Launch) (G : amG) : ∀ pc S i sz, amLk rX1_add pc = some S → decode cX1_add pc = .ok (i, sz) → amSiteP pc G l yX1_add.cls yX1_add.name yX1_add.desc (amRm 2 0 0) i sz S.1 S.2.1 S.2.2.1 S.2.2.2 := amLk_ok (by
  refine List.forall_mem_cons.mpr ⟨⟨_, _, dX1_add_1, amSite.P (amSiteGet ⟨_, rfl, by decide, Or.inl q146⟩)⟩, ?_⟩
  refine List.forall_mem_cons.mpr ⟨⟨_, _, dX1_add_5, amSite.P (amSiteV (C := RX1) (metX1_many l G) rfl (by decide) (by decide) (lw_V q506 q479 q480 q87 q481) ⟨_, rfl, rfl⟩ ⟨rfl, by decide +kernel, by decide +kernel, by decide +kernel⟩)⟩, ?_⟩
  refine List.forall_mem_cons.mpr ⟨⟨_, _, dX1_add_11, amSite.P (amSiteGet ⟨_, rfl, by decide, Or.inl q148⟩)⟩, ?_⟩
  refine List.forall_mem_cons.mpr ⟨⟨_, _, dX1_add_15, amSite.P (amSiteV (C := RX1) (metX1_many l G) rfl (by decide) (by decide) (lw_V q506 q479 q480 q87 q481) ⟨_, rfl, rfl⟩ ⟨rfl, by decide +kernel, by decide +kernel, by decide +kernel⟩)⟩, ?_⟩
  refine List.forall_mem_cons.mpr ⟨⟨_, _, dX1_add_21, amSite.P (amSiteGet ⟨_, rfl, by decide, Or.inl q150⟩)⟩, ?_⟩
  refine List.forall_mem_cons.mpr ⟨⟨_, _, dX1_add_25, amSite.P (amSiteV (C := RX1) (metX1_many l G) rfl (by decide) (by decide) (lw_V q506 q479 q480 q87 q481) ⟨_, rfl, rfl⟩ ⟨rfl, by decide +kernel, by decide +kernel, by decide +kernel⟩)⟩, ?_⟩
  refine List.forall_mem_cons.mpr ⟨⟨_, _, dX1_add_29, amSite.P (amSiteV (C := RX1) (metX1_many l G) rfl (by decide) (by decide) (lw_V q506 q479 q480 q87 q481) ⟨_, rfl, rfl⟩ ⟨rfl, by decide +kernel, by decide +kernel, by decide +kernel⟩)⟩, ?_⟩
  refine List.forall_mem_cons.mpr ⟨⟨_, _, dX1_add_32, amSite.P (amSiteV (C := RX2) (metX2_put l G) rfl (by decide) (by decide) (lw_V q896 q491 q492 q88 q493) ⟨_, rfl, rfl⟩ ⟨rfl, by decide +kernel, by decide +kernel, by decide +kernel⟩)⟩, ?_⟩
  exact fun _ h => absurd h List.not_mem_nil)
theorem goX1_add {ret F} (hF : amCld cX1_add kX1_add (amLk rX1_add) none 0 0 ret F) (n : Nat) {pc ls st h k z} (q : sX1_add ret F n pc ls st h k z) : F pc ls st h k z := hF.1 n pc ls st h k z q
theorem metX1_add (l : Launch) (G : amG) : amMet l G yX1_add (ws_ yX1_add cX1_add 2 none) 2 0 0 tX1_add := by
  refine amMet_of (cut := kX1_add) (by decide +kernel) (evX1_add l G) ?_
  intro as h K hT
  match as, hT with
  | [.ref a, .int x], ⟨S, v, e0, ⟨h1, h2, h3, h4, h5, h6, h7⟩, hN, hS, hn, hK⟩ =>
  refine ⟨Nat.le_of_ble_eq_true rfl, fun F hF => ?_⟩
  show F 0 [.ref a, .int x] [] h 0 0
  obtain ⟨a, rfl⟩ : ∃ i : Nat, i = a := ⟨_, rfl⟩
  subst e0
  have n1 : amN0 ≤ a + 1 := by omega
  have n2 : amN0 ≤ a + 2 := by omega
  have n3 : amN0 ≤ a + 3 := by omega
  have hm := hS.many
  refine goX1_add hF 60 ?_
  simp (disch := omega) only [wX1_add_0, uX1_add_0, wX1_add_1, wX1_add_4, wX1_add_5, wX1_add_8, wX1_add_9, wX1_add_10, wX1_add_11, wX1_add_14, wX1_add_15, wX1_add_18, wX1_add_19, wX1_add_20, wX1_add_21, wX1_add_24, wX1_add_25, wX1_add_28, wX1_add_29, wX1_add_32, wX1_add_35, uX1_add_35, amSI_1, amSI_2, amSI_3, amSI_s, amU_at, amIsR_ref, amIsR_null, amIsR_rf, amRf_some, amRf_none, amClr_int, amClr_ref, amClr_null, amClr_long, amClr_ra, amClr_rf, amFit_int, amFit_oref, amFit_aref, amFit_onull, amFit_anull, amOptSome, amOptNone, List.cons_append, List.nil_append, true_and, and_true, true_implies, not_true_eq_false, not_false_eq_true, false_implies, and_self, Nat.add_zero, Nat.zero_add, ne_eq, Prod.mk.injEq, amC01_0, amC01_1, amC01_nb, amNb0, amNb1, amTcpI_d, Nat.reduceLeDiff, Nat.reduceAdd, Nat.reduceSub, Nat.reduceEqDiff, Nat.le_refl, amN0le, h1, h2, h3, h4, h5, h6, hN, n1, n2, n3, amCl_nI, amVI, tX1_many_d, h7.1, h7.2.1, h7.2.2, hm, amU_ne]
  have hb : bdIs (amU (amU h.2.1 (a + 1) S.ord.length (nI v)) (a + 2) S.ord.length (vp_nar .byte (nI 0))) (a + 3) S.ord := hS.ord.kept (by funext j; simp (disch := omega) only [amU_at, amU_ne, amU_nj, amU_neR, up_ne, up_at, amSI_2]) (by funext j; simp (disch := omega) only [amU_at, amU_ne, amU_nj, amU_neR, up_ne, up_at, amSI_2])
  refine ⟨S.ord, S.ord.length, S.ord.length, rfl, rfl, h7, n3, hb, Nat.le_refl _, hn, hn, fun m' q1 q2 => ?_⟩
  rw [List.insertIdx_length_self] at q1
  refine goX1_add hF 60 ?_
  simp (disch := omega) only [wX1_add_0, uX1_add_0, wX1_add_1, wX1_add_4, wX1_add_5, wX1_add_8, wX1_add_9, wX1_add_10, wX1_add_11, wX1_add_14, wX1_add_15, wX1_add_18, wX1_add_19, wX1_add_20, wX1_add_21, wX1_add_24, wX1_add_25, wX1_add_28, wX1_add_29, wX1_add_32, wX1_add_35, uX1_add_35, amSI_1, amSI_2, amSI_3, amSI_s, amU_at, amIsR_ref, amIsR_null, amIsR_rf, amRf_some, amRf_none, amClr_int, amClr_ref, amClr_null, amClr_long, amClr_ra, amClr_rf, amFit_int, amFit_oref, amFit_aref, amFit_onull, amFit_anull, amOptSome, amOptNone, List.cons_append, List.nil_append, true_and, and_true, true_implies, not_true_eq_false, not_false_eq_true, false_implies, and_self, Nat.add_zero, Nat.zero_add, ne_eq, Prod.mk.injEq, amC01_0, amC01_1, amC01_nb, amNb0, amNb1, amTcpI_d, Nat.reduceLeDiff, Nat.reduceAdd, Nat.reduceSub, Nat.reduceEqDiff, Nat.le_refl, amN0le]
  refine amRet.of (by decide) (by decide) (hK _ ?_ ?_)
  · have ls := hS.ls
    have la := hS.la
    refine HsIs.mk q1 (by simp [HS.add, HS.sets, HS.ord, ls]) (by simp [HS.add, HS.ahead, HS.ord, la]) (fun k hk => ?_) (fun k hk => ?_) ?_ ?_ ?_ ?_ ?_ ?_
    · have hk : k < (S.ord ++ [S.ord.length]).length := hk
      simp only [List.length_append, List.length_cons, List.length_nil] at hk
      rw [q2 _ (by omega)]
      show _ = nI ((S.sets ++ [v]).getD k 0)
      rw [app_getD, ls]
      by_cases e : k = S.ord.length
      · subst e
        rw [if_neg (by omega), if_pos rfl]
        simp (disch := omega) only [amU_at, amU_ne, amU_nj, amU_neR, up_ne, up_at, amSI_2]
      · rw [if_pos (by omega), ← hS.sets k (by omega)]
        simp (disch := omega) only [amU_at, amU_ne, amU_nj, amU_neR, up_ne, up_at, amSI_2]
    · have hk : k < (S.ord ++ [S.ord.length]).length := hk
      simp only [List.length_append, List.length_cons, List.length_nil] at hk
      rw [q2 _ (by omega)]
      show _ = nI ((S.ahead ++ [0]).getD k 0)
      rw [app_getD, la]
      by_cases e : k = S.ord.length
      · subst e
        rw [if_neg (by omega), if_pos rfl]
        simp (disch := omega) only [amU_at, amU_ne, amU_nj, amU_neR, up_ne, up_at, amSI_2]
        exact amByteN 0 (by decide)
      · rw [if_pos (by omega), ← hS.ahead k (by omega)]
        simp (disch := omega) only [amU_at, amU_ne, amU_nj, amU_neR, up_ne, up_at, amSI_2]
    · rw [q2 _ (by omega)]
      simp (disch := omega) only [amU_at, amU_ne, amU_nj, amU_neR, up_ne, up_at, amSI_2]
      exact hS.prior
    · rw [q2 _ (by omega)]
      simp (disch := omega) only [amU_at, amU_ne, amU_nj, amU_neR, up_ne, up_at, amSI_2]
      exact hS.span
    · rw [q2 _ (by omega)]
      simp (disch := omega) only [amU_at, amU_ne, amU_nj, amU_neR, up_ne, up_at, amSI_2]
      exact hS.bound
    · rw [q2 _ (by omega)]
      simp (disch := omega) only [amU_at, amU_ne, amU_nj, amU_neR, up_ne, up_at, amSI_2]
      exact hS.rule
    · rw [q2 _ (by omega)]
      simp (disch := omega) only [amU_at, amU_ne, amU_nj, amU_neR, up_ne, up_at, amSI_2]
      exact hS.draw
    · intro x hx
      rcases List.mem_append.mp hx with q | q
      · exact hS.ba x q
      · rw [List.mem_singleton.mp q]; decide
  · intro i hi
    rw [q2 _ (by omega)]
    simp (disch := omega) only [amU_at, amU_ne, amU_nj, amU_neR, up_ne, up_at, amSI_2]
/-! which books -/
def bhStep (A : List Nat) (s k : Nat) : Nat := if s.testBit k then s ||| A.getD k 0 else s
def bhRound (A : List Nat) (s : Nat) : Nat := (List.range A.length).foldl (bhStep A) s
def bhN (A : List Nat) (t : Nat) (s : Nat) : Nat := match t with
  | 0 => s
  | t + 1 => bhRound A (bhN A t s)
/-- all that come behind one -/
def HS.behind (S : HS) (b : Nat) : Nat := bhN S.ahead 7 (S.ahead.getD b 0)
def aoStep (A : List Nat) (b s k : Nat) : Nat := if (A.getD k 0).testBit b then s ||| 2 ^ k else s
def HS.aheadOf (S : HS) (b : Nat) : Nat := (List.range S.ahead.length).foldl (aoStep S.ahead b) 0
theorem range_fold {β : Type} {f : β → Nat → β} {s : β} {p : Nat} : (List.range (p + 1)).foldl f s = f ((List.range p).foldl f s) p := by rw [List.range_succ, List.foldl_append]; rfl
theorem bhStep_lt {A : List Nat} (hA : ∀ x ∈ A, x < 128) {s k : Nat} (hs : s < 128) : bhStep A s k < 128 := by
  unfold bhStep
  split
  · refine or_lt (n := 7) hs ?_
    by_cases q : k < A.length
    · exact hA _ (getD_mem q)
    · rw [List.getD_eq_getElem?_getD, List.getElem?_eq_none (by omega)]; decide
  · exact hs
theorem bhFold_lt {A : List Nat} (hA : ∀ x ∈ A, x < 128) : ∀ (p s : Nat), s < 128 → (List.range p).foldl (bhStep A) s < 128
  | 0, s, hs => hs
  | p + 1, s, hs => by rw [range_fold]; exact bhStep_lt hA (bhFold_lt hA p s hs)
theorem bhN_lt {A : List Nat} (hA : ∀ x ∈ A, x < 128) : ∀ (t s : Nat), s < 128 → bhN A t s < 128
  | 0, s, hs => hs
  | t + 1, s, hs => bhFold_lt hA _ _ (bhN_lt hA t s hs)
theorem aoFold_lt {A : List Nat} {b : Nat} : ∀ (p : Nat), p ≤ 7 → (List.range p).foldl (aoStep A b) 0 < 128
  | 0, _ => show 0 < 128 by decide
  | p + 1, h => by
    rw [range_fold]
    unfold aoStep
    split
    · exact or_lt (n := 7) (aoFold_lt p (by omega)) (p2_lt h)
    · exact aoFold_lt p (by omega)
def tX1_behind : amT := fun as h K => match as with
  | [.ref a, .int b0] => ∃ (S : HS) (b : Nat), b0 = nI b ∧ hsAt h a ∧ HsIs h.2.1 a S ∧ b < S.ord.length ∧ K (some (.int (nI (S.behind b)))) h
  | _ => False
/-! ReadingStages$House.behind(I)I -/
def kX1_behind : Nat → Bool := fun pc => pc == 9 || pc == 18
def rX1_behind : List (Nat × amS) := [(1, 1, 0, 0, amTget 1 1), (21, 1, 0, 0, (amRecv 1 tX1_many)), (31, 2, 0, 0, tX0_has), (38, 1, 0, 0, amTget 1 1)]
def eX1_behind (ret : Option Value → amH → Nat → Nat → Prop) (F : amX) : Nat → amX := amWp cX1_behind kX1_behind (amLk rX1_behind) (some .int) 0 0 ret F
def sX1_behind (ret : Option Value → amH → Nat → Nat → Prop) (F : amX) : Nat → amX := amWs cX1_behind kX1_behind (amLk rX1_behind) (some .int) 0 0 ret F
theorem wX1_behind_0 {ret F n h} {v0 v1 v2 v3 v4 st} : eX1_behind ret F (n + 1) 0 [v0, v1, v2, v3, v4] (st) h 0 0 = (amIsR v0 ∧ eX1_behind ret F n 1 [v0, v1, v2, v3, v4] (v0 :: st) h 0 0) := (amWp_dec rfl dX1_behind_0 rfl).trans rfl
theorem uX1_behind_0 {ret F n h} {v0 v1 v2 v3 v4 st} : sX1_behind ret F n 0 [v0, v1, v2, v3, v4] (st) h 0 0 = (amIsR v0 ∧ eX1_behind ret F n 1 [v0, v1, v2, v3, v4] (v0 :: st) h 0 0) := (amWs_dec dX1_behind_0 rfl).trans rfl
theorem wX1_behind_1 {ret F n h} {v0 v1 v2 v3 v4 a} : eX1_behind ret F (n + 1) 1 [v0, v1, v2, v3, v4] (.ref a :: []) h 0 0 = (h.1 a = (0, 1) ∧ eX1_behind ret F n 4 [v0, v1, v2, v3, v4] (va_rf (h.2.2.2.1 a 1) :: []) h 0 0) := (amWp_dec rfl dX1_behind_1 rfl).trans (amS4 (Nat.le_of_ble_eq_true rfl) (Nat.le_of_ble_eq_true rfl) (Nat.le_of_ble_eq_true rfl) (Nat.le_of_ble_eq_true rfl))
theorem wX1_behind_4 {ret F n h} {v0 v2 v3 v4 st x} : eX1_behind ret F (n + 1) 4 [v0, .int x, v2, v3, v4] (st) h 0 0 = (eX1_behind ret F n 5 [v0, .int x, v2, v3, v4] (.int x :: st) h 0 0) := (amWp_dec rfl dX1_behind_4 rfl).trans rfl
theorem wX1_behind_5 {ret F n h} {v0 v1 v2 v3 v4 st x a} : eX1_behind ret F (n + 1) 5 [v0, v1, v2, v3, v4] (.int x :: .ref a :: st) h 0 0 = ((h.1 a).1 = 2 ∧ vp_in x (h.1 a).2 ∧ eX1_behind ret F n 6 [v0, v1, v2, v3, v4] (.int (h.2.1 a x.toNatClampNeg) :: st) h 0 0) := (amWp_dec rfl dX1_behind_5 rfl).trans rfl
theorem wX1_behind_6 {ret F n h} {v0 v1 v2 v3 v4 st x} : eX1_behind ret F (n + 1) 6 [v0, v1, v2, v3, v4] (.int x :: st) h 0 0 = (eX1_behind ret F n 7 [v0, amClr v1, .int x, v3, v4] (st) h 0 0) := (amWp_dec rfl dX1_behind_6 rfl).trans (amTrue (Nat.le_of_ble_eq_true rfl))
theorem wX1_behind_7 {ret F n h} {v0 v1 v2 v3 v4 st} : eX1_behind ret F (n + 1) 7 [v0, v1, v2, v3, v4] (st) h 0 0 = (eX1_behind ret F n 8 [v0, v1, v2, v3, v4] (.int (nI 0) :: st) h 0 0) := (amWp_dec rfl dX1_behind_7 rfl).trans rfl
theorem wX1_behind_8 {ret F n h} {v0 v1 v2 v3 v4 st x} : eX1_behind ret F (n + 1) 8 [v0, v1, v2, v3, v4] (.int x :: st) h 0 0 = (eX1_behind ret F n 9 [v0, v1, amClr v2, .int x, v4] (st) h 0 0) := (amWp_dec rfl dX1_behind_8 rfl).trans (amTrue (Nat.le_of_ble_eq_true rfl))
theorem wX1_behind_9 {ret F n ls st h k z} : eX1_behind ret F (n + 1) 9 ls st h k z = F 9 ls st h k z := amWp_cut rfl
theorem uX1_behind_9 {ret F n h} {v0 v1 v2 v4 st x} : sX1_behind ret F n 9 [v0, v1, v2, .int x, v4] (st) h 0 0 = (eX1_behind ret F n 10 [v0, v1, v2, .int x, v4] (.int x :: st) h 0 0) := (amWs_dec dX1_behind_9 rfl).trans rfl
theorem wX1_behind_10 {ret F n h} {v0 v1 v2 v3 v4 st} : eX1_behind ret F (n + 1) 10 [v0, v1, v2, v3, v4] (st) h 0 0 = (eX1_behind ret F n 12 [v0, v1, v2, v3, v4] (.int (nI 7) :: st) h 0 0) := (amWp_dec rfl dX1_behind_10 rfl).trans rfl
theorem wX1_behind_12 {ret F n h} {v0 v1 v2 v3 v4 st y x} : eX1_behind ret F (n + 1) 12 [v0, v1, v2, v3, v4] (.int y :: .int x :: st) h 0 0 = ((y ≤ x → eX1_behind ret F n 62 [v0, v1, v2, v3, v4] (st) h 0 0) ∧ (¬ y ≤ x → eX1_behind ret F n 15 [v0, v1, v2, v3, v4] (st) h 0 0)) := (amWp_dec rfl dX1_behind_12 rfl).trans rfl
theorem wX1_behind_15 {ret F n h} {v0 v1 v2 v3 v4 st} : eX1_behind ret F (n + 1) 15 [v0, v1, v2, v3, v4] (st) h 0 0 = (eX1_behind ret F n 16 [v0, v1, v2, v3, v4] (.int (nI 0) :: st) h 0 0) := (amWp_dec rfl dX1_behind_15 rfl).trans rfl
theorem wX1_behind_16 {ret F n h} {v0 v1 v2 v3 v4 st x} : eX1_behind ret F (n + 1) 16 [v0, v1, v2, v3, v4] (.int x :: st) h 0 0 = (eX1_behind ret F n 18 [v0, v1, v2, amClr v3, .int x] (st) h 0 0) := (amWp_dec rfl dX1_behind_16 rfl).trans (amTrue (Nat.le_of_ble_eq_true rfl))
theorem wX1_behind_18 {ret F n ls st h k z} : eX1_behind ret F (n + 1) 18 ls st h k z = F 18 ls st h k z := amWp_cut rfl
theorem uX1_behind_18 {ret F n h} {v0 v1 v2 v3 st x} : sX1_behind ret F n 18 [v0, v1, v2, v3, .int x] (st) h 0 0 = (eX1_behind ret F n 20 [v0, v1, v2, v3, .int x] (.int x :: st) h 0 0) := (amWs_dec dX1_behind_18 rfl).trans rfl
theorem wX1_behind_20 {ret F n h} {v0 v1 v2 v3 v4 st} : eX1_behind ret F (n + 1) 20 [v0, v1, v2, v3, v4] (st) h 0 0 = (amIsR v0 ∧ eX1_behind ret F n 21 [v0, v1, v2, v3, v4] (v0 :: st) h 0 0) := (amWp_dec rfl dX1_behind_20 rfl).trans rfl
theorem wX1_behind_21 {ret F n h} {v0 v1 v2 v3 v4 x0 r0} : eX1_behind ret F (n + 1) 21 [v0, v1, v2, v3, v4] (.ref x0 :: r0 :: []) h 0 0 = (h.1 x0 = (0, 1) ∧ tX1_many [.ref x0] h (fun v h => eX1_behind ret F n 24 [v0, v1, v2, v3, v4] (v.toList ++ (r0 :: [])) h 0 0)) := (amWp_dec rfl dX1_behind_21 rfl).trans (amS4 (Nat.le_of_ble_eq_true rfl) (Nat.le_of_ble_eq_true rfl) (Nat.le_of_ble_eq_true rfl) (Nat.le_of_ble_eq_true rfl))
theorem wX1_behind_24 {ret F n h} {v0 v1 v2 v3 v4 st y x} : eX1_behind ret F (n + 1) 24 [v0, v1, v2, v3, v4] (.int y :: .int x :: st) h 0 0 = ((y ≤ x → eX1_behind ret F n 56 [v0, v1, v2, v3, v4] (st) h 0 0) ∧ (¬ y ≤ x → eX1_behind ret F n 27 [v0, v1, v2, v3, v4] (st) h 0 0)) := (amWp_dec rfl dX1_behind_24 rfl).trans rfl
theorem wX1_behind_27 {ret F n h} {v0 v1 v3 v4 st x} : eX1_behind ret F (n + 1) 27 [v0, v1, .int x, v3, v4] (st) h 0 0 = (eX1_behind ret F n 28 [v0, v1, .int x, v3, v4] (.int x :: st) h 0 0) := (amWp_dec rfl dX1_behind_27 rfl).trans rfl
theorem wX1_behind_28 {ret F n h} {v0 v1 v3 v4 st x} : eX1_behind ret F (n + 1) 28 [v0, v1, .int x, v3, v4] (st) h 0 0 = (eX1_behind ret F n 29 [v0, v1, .int x, v3, v4] (.int x :: st) h 0 0) := (amWp_dec rfl dX1_behind_28 rfl).trans rfl
theorem wX1_behind_29 {ret F n h} {v0 v1 v2 v3 st x} : eX1_behind ret F (n + 1) 29 [v0, v1, v2, v3, .int x] (st) h 0 0 = (eX1_behind ret F n 31 [v0, v1, v2, v3, .int x] (.int x :: st) h 0 0) := (amWp_dec rfl dX1_behind_29 rfl).trans rfl
theorem wX1_behind_31 {ret F n h} {v0 v1 v2 v3 v4 x1 x0 r0} : eX1_behind ret F (n + 1) 31 [v0, v1, v2, v3, v4] (.int x1 :: .int x0 :: r0 :: []) h 0 0 = (tX0_has [.int x0, .int x1] h (fun v h => eX1_behind ret F n 34 [v0, v1, v2, v3, v4] (v.toList ++ (r0 :: [])) h 0 0)) := (amWp_dec rfl dX1_behind_31 rfl).trans (amS4 (Nat.le_of_ble_eq_true rfl) (Nat.le_of_ble_eq_true rfl) (Nat.le_of_ble_eq_true rfl) (Nat.le_of_ble_eq_true rfl))
theorem wX1_behind_34 {ret F n h} {v0 v1 v2 v3 v4 st x} : eX1_behind ret F (n + 1) 34 [v0, v1, v2, v3, v4] (.int x :: st) h 0 0 = ((x = 0 → eX1_behind ret F n 47 [v0, v1, v2, v3, v4] (st) h 0 0) ∧ (¬ x = 0 → eX1_behind ret F n 37 [v0, v1, v2, v3, v4] (st) h 0 0)) := (amWp_dec rfl dX1_behind_34 rfl).trans rfl
theorem wX1_behind_37 {ret F n h} {v0 v1 v2 v3 v4 st} : eX1_behind ret F (n + 1) 37 [v0, v1, v2, v3, v4] (st) h 0 0 = (amIsR v0 ∧ eX1_behind ret F n 38 [v0, v1, v2, v3, v4] (v0 :: st) h 0 0) := (amWp_dec rfl dX1_behind_37 rfl).trans rfl
theorem wX1_behind_38 {ret F n h} {v0 v1 v2 v3 v4 r0 a} : eX1_behind ret F (n + 1) 38 [v0, v1, v2, v3, v4] (.ref a :: r0 :: []) h 0 0 = (h.1 a = (0, 1) ∧ eX1_behind ret F n 41 [v0, v1, v2, v3, v4] (va_rf (h.2.2.2.1 a 1) :: r0 :: []) h 0 0) := (amWp_dec rfl dX1_behind_38 rfl).trans (amS4 (Nat.le_of_ble_eq_true rfl) (Nat.le_of_ble_eq_true rfl) (Nat.le_of_ble_eq_true rfl) (Nat.le_of_ble_eq_true rfl))
theorem wX1_behind_41 {ret F n h} {v0 v1 v2 v3 st x} : eX1_behind ret F (n + 1) 41 [v0, v1, v2, v3, .int x] (st) h 0 0 = (eX1_behind ret F n 43 [v0, v1, v2, v3, .int x] (.int x :: st) h 0 0) := (amWp_dec rfl dX1_behind_41 rfl).trans rfl
theorem wX1_behind_43 {ret F n h} {v0 v1 v2 v3 v4 st x a} : eX1_behind ret F (n + 1) 43 [v0, v1, v2, v3, v4] (.int x :: .ref a :: st) h 0 0 = ((h.1 a).1 = 2 ∧ vp_in x (h.1 a).2 ∧ eX1_behind ret F n 44 [v0, v1, v2, v3, v4] (.int (h.2.1 a x.toNatClampNeg) :: st) h 0 0) := (amWp_dec rfl dX1_behind_43 rfl).trans rfl
theorem wX1_behind_44 {ret F n h} {v0 v1 v2 v3 v4 st} : eX1_behind ret F (n + 1) 44 [v0, v1, v2, v3, v4] (st) h 0 0 = (eX1_behind ret F n 48 [v0, v1, v2, v3, v4] (st) h 0 0) := (amWp_dec rfl dX1_behind_44 rfl).trans rfl
theorem wX1_behind_47 {ret F n h} {v0 v1 v2 v3 v4 st} : eX1_behind ret F (n + 1) 47 [v0, v1, v2, v3, v4] (st) h 0 0 = (eX1_behind ret F n 48 [v0, v1, v2, v3, v4] (.int (nI 0) :: st) h 0 0) := (amWp_dec rfl dX1_behind_47 rfl).trans rfl
theorem wX1_behind_48 {ret F n h} {v0 v1 v2 v3 v4 st y x} : eX1_behind ret F (n + 1) 48 [v0, v1, v2, v3, v4] (.int y :: .int x :: st) h 0 0 = (eX1_behind ret F n 49 [v0, v1, v2, v3, v4] (.int (x ||| y) :: st) h 0 0) := (amWp_dec rfl dX1_behind_48 rfl).trans rfl
theorem wX1_behind_49 {ret F n h} {v0 v1 v2 v3 v4 st x} : eX1_behind ret F (n + 1) 49 [v0, v1, v2, v3, v4] (.int x :: st) h 0 0 = (eX1_behind ret F n 50 [v0, amClr v1, .int x, v3, v4] (st) h 0 0) := (amWp_dec rfl dX1_behind_49 rfl).trans (amTrue (Nat.le_of_ble_eq_true rfl))
theorem wX1_behind_50 {ret F n h} {v0 v1 v2 v3 st x} : eX1_behind ret F (n + 1) 50 [v0, v1, v2, v3, .int x] (st) h 0 0 = (eX1_behind ret F n 53 [v0, v1, v2, amClr v3, .int (x + nI 1)] (st) h 0 0) := (amWp_dec rfl dX1_behind_50 rfl).trans rfl
theorem wX1_behind_53 {ret F n h} {v0 v1 v2 v3 v4 st} : eX1_behind ret F (n + 1) 53 [v0, v1, v2, v3, v4] (st) h 0 0 = (eX1_behind ret F n 18 [v0, v1, v2, v3, v4] (st) h 0 0) := (amWp_dec rfl dX1_behind_53 rfl).trans rfl
theorem wX1_behind_56 {ret F n h} {v0 v1 v2 v4 st x} : eX1_behind ret F (n + 1) 56 [v0, v1, v2, .int x, v4] (st) h 0 0 = (eX1_behind ret F n 59 [v0, v1, amClr v2, .int (x + nI 1), v4] (st) h 0 0) := (amWp_dec rfl dX1_behind_56 rfl).trans rfl
theorem wX1_behind_59 {ret F n h} {v0 v1 v2 v3 v4 st} : eX1_behind ret F (n + 1) 59 [v0, v1, v2, v3, v4] (st) h 0 0 = (eX1_behind ret F n 9 [v0, v1, v2, v3, v4] (st) h 0 0) := (amWp_dec rfl dX1_behind_59 rfl).trans rfl
theorem wX1_behind_62 {ret F n h} {v0 v1 v3 v4 st x} : eX1_behind ret F (n + 1) 62 [v0, v1, .int x, v3, v4] (st) h 0 0 = (eX1_behind ret F n 63 [v0, v1, .int x, v3, v4] (.int x :: st) h 0 0) := (amWp_dec rfl dX1_behind_62 rfl).trans rfl
theorem wX1_behind_63 {ret F n h} {v0 v1 v2 v3 v4 x} : eX1_behind ret F (n + 1) 63 [v0, v1, v2, v3, v4] ([.int x]) h 0 0 = (ret (some (.int x)) h 0 0) := (amWp_dec rfl dX1_behind_63 rfl).trans (amTrue ⟨_, rfl, rfl⟩)
theorem evX1_behind (l : Launch) (G : amG) : ∀ pc S i sz, amLk rX1_behind pc = some S → decode cX1_behind pc = .ok (i, sz) → amSiteP pc G l yX1_behind.cls yX1_behind.name yX1_behind.desc (amRm 2 0 0) i sz S.1 S.2.1 S.2.2.1 S.2.2.2 := amLk_ok (by
  refine List.forall_mem_cons.mpr ⟨⟨_, _, dX1_behind_1, amSite.P (amSiteGet ⟨_, rfl, by decide, Or.inl q148⟩)⟩, ?_⟩
  refine List.forall_mem_cons.mpr ⟨⟨_, _, dX1_behind_21, amSite.P (amSiteV (C := RX1) (metX1_many l G) rfl (by decide) (by decide) (lw_V q506 q479 q480 q87 q481) ⟨_, rfl, rfl⟩ ⟨rfl, by decide +kernel, by decide +kernel, by decide +kernel⟩)⟩, ?_⟩
  refine List.forall_mem_cons.mpr ⟨⟨_, _, dX1_behind_31, amSite.P (amSiteSN (host := "ReadingStages") (metX0_has l G) rfl (by decide) (by decide) q437 (List.mem_of_getElem? (i := 1) rfl) q436 q86 ⟨by decide +kernel, by decide +kernel, by decide +kernel⟩)⟩, ?_⟩
  refine List.forall_mem_cons.mpr ⟨⟨_, _, dX1_behind_38, amSite.P (amSiteGet ⟨_, rfl, by decide, Or.inl q148⟩)⟩, ?_⟩
  exact fun _ h => absurd h List.not_mem_nil)
theorem goX1_behind {ret F} (hF : amCld cX1_behind kX1_behind (amLk rX1_behind) (some .int) 0 0 ret F) (n : Nat) {pc ls st h k z} (q : sX1_behind ret F n pc ls st h k z) : F pc ls st h k z := hF.1 n pc ls st h k z q
theorem metX1_behind (l : Launch) (G : amG) : amMet l G yX1_behind (ws_ yX1_behind cX1_behind 5 (some .int)) 2 0 0 tX1_behind := by
  refine amMet_of (cut := kX1_behind) (by decide +kernel) (evX1_behind l G) ?_
  intro as h K hT
  match as, hT with
  | [.ref a, .int b0], ⟨S, b, e0, ⟨h1, h2, h3, h4, h5, h6, h7⟩, hS, hb, hK⟩ =>
  refine ⟨Nat.le_of_ble_eq_true rfl, fun F hF => ?_⟩
  show F 0 [.ref a, .int b0, .retAddr 0, .retAddr 0, .retAddr 0] [] h 0 0
  obtain ⟨a, rfl⟩ : ∃ i : Nat, i = a := ⟨_, rfl⟩
  subst e0
  have hn := hS.n7
  have la := hS.la
  have hm := hS.many
  have hb9 := hS.al hb
  have inner : ∀ t s p v3, p + t = S.ord.length → s < 128 → (F 9 [.ref a, .int (nI b), .int (nI ((List.range S.ord.length).foldl (bhStep S.ahead) s)), .int (nI (v3 + 1)), .int (nI S.ord.length)] [] h 0 0) → F 18 [.ref a, .int (nI b), .int (nI ((List.range p).foldl (bhStep S.ahead) s)), .int (nI v3), .int (nI p)] [] h 0 0 := by
    intro t
    induction t with
    | zero =>
      intro s p v3 e1 hs nx
      have q : (S.ord.length ≤ p) = True := eq_true (by omega)
      have e : p = S.ord.length := by omega
      subst e
      refine goX1_behind hF 60 ?_
      simp (disch := omega) only [wX1_behind_0, uX1_behind_0, wX1_behind_1, wX1_behind_4, wX1_behind_5, wX1_behind_6, wX1_behind_7, wX1_behind_8, wX1_behind_9, uX1_behind_9, wX1_behind_10, wX1_behind_12, wX1_behind_15, wX1_behind_16, wX1_behind_18, uX1_behind_18, wX1_behind_20, wX1_behind_21, wX1_behind_24, wX1_behind_27, wX1_behind_28, wX1_behind_29, wX1_behind_31, wX1_behind_34, wX1_behind_37, wX1_behind_38, wX1_behind_41, wX1_behind_43, wX1_behind_44, wX1_behind_47, wX1_behind_48, wX1_behind_49, wX1_behind_50, wX1_behind_53, wX1_behind_56, wX1_behind_59, wX1_behind_62, wX1_behind_63, amSI_1, amSI_2, amSI_3, amSI_s, amU_at, amIsR_ref, amIsR_null, amIsR_rf, amRf_some, amRf_none, amClr_int, amClr_ref, amClr_null, amClr_long, amClr_ra, amClr_rf, amFit_int, amFit_oref, amFit_aref, amFit_onull, amFit_anull, amOptSome, amOptNone, List.cons_append, List.nil_append, true_and, and_true, true_implies, not_true_eq_false, not_false_eq_true, false_implies, and_self, Nat.add_zero, Nat.zero_add, ne_eq, Prod.mk.injEq, amC01_0, amC01_1, amC01_nb, amNb0, amNb1, amTcpI_d, Nat.reduceLeDiff, Nat.reduceAdd, Nat.reduceSub, Nat.reduceEqDiff, Nat.le_refl, amN0le, h1, h2, h3, h4, h5, h6, tX1_many_d, h7.1, hm, amLeI, q, amAdd]
      exact nx
    | succ t ih =>
      intro s p v3 e1 hs nx
      have q : (S.ord.length ≤ p) = False := eq_false (by omega)
      have nx := ih s (p + 1) v3 (by omega) hs nx
      have s1 := bhFold_lt hS.ba p s hs
      have ap := hS.ahead p (by omega)
      rw [range_fold] at nx
      refine goX1_behind hF 60 ?_
      simp (disch := omega) only [wX1_behind_0, uX1_behind_0, wX1_behind_1, wX1_behind_4, wX1_behind_5, wX1_behind_6, wX1_behind_7, wX1_behind_8, wX1_behind_9, uX1_behind_9, wX1_behind_10, wX1_behind_12, wX1_behind_15, wX1_behind_16, wX1_behind_18, uX1_behind_18, wX1_behind_20, wX1_behind_21, wX1_behind_24, wX1_behind_27, wX1_behind_28, wX1_behind_29, wX1_behind_31, wX1_behind_34, wX1_behind_37, wX1_behind_38, wX1_behind_41, wX1_behind_43, wX1_behind_44, wX1_behind_47, wX1_behind_48, wX1_behind_49, wX1_behind_50, wX1_behind_53, wX1_behind_56, wX1_behind_59, wX1_behind_62, wX1_behind_63, amSI_1, amSI_2, amSI_3, amSI_s, amU_at, amIsR_ref, amIsR_null, amIsR_rf, amRf_some, amRf_none, amClr_int, amClr_ref, amClr_null, amClr_long, amClr_ra, amClr_rf, amFit_int, amFit_oref, amFit_aref, amFit_onull, amFit_anull, amOptSome, amOptNone, List.cons_append, List.nil_append, true_and, and_true, true_implies, not_true_eq_false, not_false_eq_true, false_implies, and_self, Nat.add_zero, Nat.zero_add, ne_eq, Prod.mk.injEq, amC01_0, amC01_1, amC01_nb, amNb0, amNb1, amTcpI_d, Nat.reduceLeDiff, Nat.reduceAdd, Nat.reduceSub, Nat.reduceEqDiff, Nat.le_refl, amN0le, h1, h2, h3, h4, h5, h6, tX1_many_d, tX0_has_d, h7.1, hm, amLeI, q, amAdd, amVI, amCl_nI, ap, nx_or, nx_hasI]
      refine ⟨fun r => ?_, fun r => ?_⟩
      · rw [bhStep, if_neg r] at nx
        rw [Nat.or_zero]
        exact nx
      · rw [bhStep, if_pos (Classical.not_not.mp r)] at nx
        exact nx
  have outer : ∀ t r v4, r + t = 7 → F 9 [.ref a, .int (nI b), .int (nI (bhN S.ahead r (S.ahead.getD b 0))), .int (nI r), v4] [] h 0 0 := by
    intro t
    induction t with
    | zero =>
      intro r v4 e1
      have e : r = 7 := by omega
      subst e
      have q : (7 ≤ 7) = True := eq_true (by omega)
      refine goX1_behind hF 60 ?_
      simp (disch := omega) only [wX1_behind_0, uX1_behind_0, wX1_behind_1, wX1_behind_4, wX1_behind_5, wX1_behind_6, wX1_behind_7, wX1_behind_8, wX1_behind_9, uX1_behind_9, wX1_behind_10, wX1_behind_12, wX1_behind_15, wX1_behind_16, wX1_behind_18, uX1_behind_18, wX1_behind_20, wX1_behind_21, wX1_behind_24, wX1_behind_27, wX1_behind_28, wX1_behind_29, wX1_behind_31, wX1_behind_34, wX1_behind_37, wX1_behind_38, wX1_behind_41, wX1_behind_43, wX1_behind_44, wX1_behind_47, wX1_behind_48, wX1_behind_49, wX1_behind_50, wX1_behind_53, wX1_behind_56, wX1_behind_59, wX1_behind_62, wX1_behind_63, amSI_1, amSI_2, amSI_3, amSI_s, amU_at, amIsR_ref, amIsR_null, amIsR_rf, amRf_some, amRf_none, amClr_int, amClr_ref, amClr_null, amClr_long, amClr_ra, amClr_rf, amFit_int, amFit_oref, amFit_aref, amFit_onull, amFit_anull, amOptSome, amOptNone, List.cons_append, List.nil_append, true_and, and_true, true_implies, not_true_eq_false, not_false_eq_true, false_implies, and_self, Nat.add_zero, Nat.zero_add, ne_eq, Prod.mk.injEq, amC01_0, amC01_1, amC01_nb, amNb0, amNb1, amTcpI_d, Nat.reduceLeDiff, Nat.reduceAdd, Nat.reduceSub, Nat.reduceEqDiff, Nat.le_refl, amN0le, h1, h2, h3, h4, h5, h6, tX1_many_d, h7.1, hm, amLeI, q, amAdd]
      exact amRet.of (by decide) (by decide) hK
    | succ t ih =>
      intro r v4 e1
      have q : (7 ≤ r) = False := eq_false (by omega)
      have nx := ih (r + 1) (.int (nI S.ord.length)) (by omega)
      have e2 : bhN S.ahead (r + 1) (S.ahead.getD b 0) = (List.range S.ord.length).foldl (bhStep S.ahead) (bhN S.ahead r (S.ahead.getD b 0)) := by rw [← la]; rfl
      rw [e2] at nx
      have nx2 := inner S.ord.length (bhN S.ahead r (S.ahead.getD b 0)) 0 r (by omega) (bhN_lt hS.ba r _ hb9) nx
      refine goX1_behind hF 60 ?_
      simp (disch := omega) only [wX1_behind_0, uX1_behind_0, wX1_behind_1, wX1_behind_4, wX1_behind_5, wX1_behind_6, wX1_behind_7, wX1_behind_8, wX1_behind_9, uX1_behind_9, wX1_behind_10, wX1_behind_12, wX1_behind_15, wX1_behind_16, wX1_behind_18, uX1_behind_18, wX1_behind_20, wX1_behind_21, wX1_behind_24, wX1_behind_27, wX1_behind_28, wX1_behind_29, wX1_behind_31, wX1_behind_34, wX1_behind_37, wX1_behind_38, wX1_behind_41, wX1_behind_43, wX1_behind_44, wX1_behind_47, wX1_behind_48, wX1_behind_49, wX1_behind_50, wX1_behind_53, wX1_behind_56, wX1_behind_59, wX1_behind_62, wX1_behind_63, amSI_1, amSI_2, amSI_3, amSI_s, amU_at, amIsR_ref, amIsR_null, amIsR_rf, amRf_some, amRf_none, amClr_int, amClr_ref, amClr_null, amClr_long, amClr_ra, amClr_rf, amFit_int, amFit_oref, amFit_aref, amFit_onull, amFit_anull, amOptSome, amOptNone, List.cons_append, List.nil_append, true_and, and_true, true_implies, not_true_eq_false, not_false_eq_true, false_implies, and_self, Nat.add_zero, Nat.zero_add, ne_eq, Prod.mk.injEq, amC01_0, amC01_1, amC01_nb, amNb0, amNb1, amTcpI_d, Nat.reduceLeDiff, Nat.reduceAdd, Nat.reduceSub, Nat.reduceEqDiff, Nat.le_refl, amN0le, h1, h2, h3, h4, h5, h6, tX1_many_d, h7.1, hm, amLeI, q, amAdd]
      exact nx2
  refine goX1_behind hF 60 ?_
  simp (disch := omega) only [wX1_behind_0, uX1_behind_0, wX1_behind_1, wX1_behind_4, wX1_behind_5, wX1_behind_6, wX1_behind_7, wX1_behind_8, wX1_behind_9, uX1_behind_9, wX1_behind_10, wX1_behind_12, wX1_behind_15, wX1_behind_16, wX1_behind_18, uX1_behind_18, wX1_behind_20, wX1_behind_21, wX1_behind_24, wX1_behind_27, wX1_behind_28, wX1_behind_29, wX1_behind_31, wX1_behind_34, wX1_behind_37, wX1_behind_38, wX1_behind_41, wX1_behind_43, wX1_behind_44, wX1_behind_47, wX1_behind_48, wX1_behind_49, wX1_behind_50, wX1_behind_53, wX1_behind_56, wX1_behind_59, wX1_behind_62, wX1_behind_63, amSI_1, amSI_2, amSI_3, amSI_s, amU_at, amIsR_ref, amIsR_null, amIsR_rf, amRf_some, amRf_none, amClr_int, amClr_ref, amClr_null, amClr_long, amClr_ra, amClr_rf, amFit_int, amFit_oref, amFit_aref, amFit_onull, amFit_anull, amOptSome, amOptNone, List.cons_append, List.nil_append, true_and, and_true, true_implies, not_true_eq_false, not_false_eq_true, false_implies, and_self, Nat.add_zero, Nat.zero_add, ne_eq, Prod.mk.injEq, amC01_0, amC01_1, amC01_nb, amNb0, amNb1, amTcpI_d, Nat.reduceLeDiff, Nat.reduceAdd, Nat.reduceSub, Nat.reduceEqDiff, Nat.le_refl, amN0le, h1, h2, h3, h4, h5, h6, tX1_many_d, h7.1, hm, hS.ahead b hb, amVI, amCl_nI]
  exact outer 7 0 _ (by omega)
theorem tX1_behind_d {a : Nat} {b0 : Int32} {h : amH} {K : Option Value → amH → Prop} : tX1_behind [.ref a, .int b0] h K = ∃ (S : HS) (b : Nat), b0 = nI b ∧ hsAt h a ∧ HsIs h.2.1 a S ∧ b < S.ord.length ∧ K (some (.int (nI (S.behind b)))) h := rfl
def tX1_aheadOf : amT := fun as h K => match as with
  | [.ref a, .int b0] => ∃ (S : HS) (b : Nat), b0 = nI b ∧ hsAt h a ∧ HsIs h.2.1 a S ∧ b < S.ord.length ∧ K (some (.int (nI (S.aheadOf b)))) h
  | _ => False
/-! ReadingStages$House.aheadOf(I)I -/
def kX1_aheadOf : Nat → Bool := fun pc => pc == 4
def rX1_aheadOf : List (Nat × amS) := [(6, 1, 0, 0, (amRecv 1 tX1_many)), (14, 1, 0, 0, amTget 1 1), (20, 2, 0, 0, tX0_has)]
def eX1_aheadOf (ret : Option Value → amH → Nat → Nat → Prop) (F : amX) : Nat → amX := amWp cX1_aheadOf kX1_aheadOf (amLk rX1_aheadOf) (some .int) 0 0 ret F
def sX1_aheadOf (ret : Option Value → amH → Nat → Nat → Prop) (F : amX) : Nat → amX := amWs cX1_aheadOf kX1_aheadOf (amLk rX1_aheadOf) (some .int) 0 0 ret F
theorem wX1_aheadOf_0 {ret F n h} {v0 v1 v2 v3 st} : eX1_aheadOf ret F (n + 1) 0 [v0, v1, v2, v3] (st) h 0 0 = (eX1_aheadOf ret F n 1 [v0, v1, v2, v3] (.int (nI 0) :: st) h 0 0) := (amWp_dec rfl dX1_aheadOf_0 rfl).trans rfl
theorem uX1_aheadOf_0 {ret F n h} {v0 v1 v2 v3 st} : sX1_aheadOf ret F n 0 [v0, v1, v2, v3] (st) h 0 0 = (eX1_aheadOf ret F n 1 [v0, v1, v2, v3] (.int (nI 0) :: st) h 0 0) := (amWs_dec dX1_aheadOf_0 rfl).trans rfl
theorem wX1_aheadOf_1 {ret F n h} {v0 v1 v2 v3 st x} : eX1_aheadOf ret F (n + 1) 1 [v0, v1, v2, v3] (.int x :: st) h 0 0 = (eX1_aheadOf ret F n 2 [v0, amClr v1, .int x, v3] (st) h 0 0) := (amWp_dec rfl dX1_aheadOf_1 rfl).trans (amTrue (Nat.le_of_ble_eq_true rfl))
theorem wX1_aheadOf_2 {ret F n h} {v0 v1 v2 v3 st} : eX1_aheadOf ret F (n + 1) 2 [v0, v1, v2, v3] (st) h 0 0 = (eX1_aheadOf ret F n 3 [v0, v1, v2, v3] (.int (nI 0) :: st) h 0 0) := (amWp_dec rfl dX1_aheadOf_2 rfl).trans rfl
theorem wX1_aheadOf_3 {ret F n h} {v0 v1 v2 v3 st x} : eX1_aheadOf ret F (n + 1) 3 [v0, v1, v2, v3] (.int x :: st) h 0 0 = (eX1_aheadOf ret F n 4 [v0, v1, amClr v2, .int x] (st) h 0 0) := (amWp_dec rfl dX1_aheadOf_3 rfl).trans (amTrue (Nat.le_of_ble_eq_true rfl))
theorem wX1_aheadOf_4 {ret F n ls st h k z} : eX1_aheadOf ret F (n + 1) 4 ls st h k z = F 4 ls st h k z := amWp_cut rfl
theorem uX1_aheadOf_4 {ret F n h} {v0 v1 v2 st x} : sX1_aheadOf ret F n 4 [v0, v1, v2, .int x] (st) h 0 0 = (eX1_aheadOf ret F n 5 [v0, v1, v2, .int x] (.int x :: st) h 0 0) := (amWs_dec dX1_aheadOf_4 rfl).trans rfl
theorem wX1_aheadOf_5 {ret F n h} {v0 v1 v2 v3 st} : eX1_aheadOf ret F (n + 1) 5 [v0, v1, v2, v3] (st) h 0 0 = (amIsR v0 ∧ eX1_aheadOf ret F n 6 [v0, v1, v2, v3] (v0 :: st) h 0 0) := (amWp_dec rfl dX1_aheadOf_5 rfl).trans rfl
theorem wX1_aheadOf_6 {ret F n h} {v0 v1 v2 v3 x0 r0} : eX1_aheadOf ret F (n + 1) 6 [v0, v1, v2, v3] (.ref x0 :: r0 :: []) h 0 0 = (h.1 x0 = (0, 1) ∧ tX1_many [.ref x0] h (fun v h => eX1_aheadOf ret F n 9 [v0, v1, v2, v3] (v.toList ++ (r0 :: [])) h 0 0)) := (amWp_dec rfl dX1_aheadOf_6 rfl).trans (amS4 (Nat.le_of_ble_eq_true rfl) (Nat.le_of_ble_eq_true rfl) (Nat.le_of_ble_eq_true rfl) (Nat.le_of_ble_eq_true rfl))
theorem wX1_aheadOf_9 {ret F n h} {v0 v1 v2 v3 st y x} : eX1_aheadOf ret F (n + 1) 9 [v0, v1, v2, v3] (.int y :: .int x :: st) h 0 0 = ((y ≤ x → eX1_aheadOf ret F n 41 [v0, v1, v2, v3] (st) h 0 0) ∧ (¬ y ≤ x → eX1_aheadOf ret F n 12 [v0, v1, v2, v3] (st) h 0 0)) := (amWp_dec rfl dX1_aheadOf_9 rfl).trans rfl
theorem wX1_aheadOf_12 {ret F n h} {v0 v1 v3 st x} : eX1_aheadOf ret F (n + 1) 12 [v0, v1, .int x, v3] (st) h 0 0 = (eX1_aheadOf ret F n 13 [v0, v1, .int x, v3] (.int x :: st) h 0 0) := (amWp_dec rfl dX1_aheadOf_12 rfl).trans rfl
theorem wX1_aheadOf_13 {ret F n h} {v0 v1 v2 v3 st} : eX1_aheadOf ret F (n + 1) 13 [v0, v1, v2, v3] (st) h 0 0 = (amIsR v0 ∧ eX1_aheadOf ret F n 14 [v0, v1, v2, v3] (v0 :: st) h 0 0) := (amWp_dec rfl dX1_aheadOf_13 rfl).trans rfl
theorem wX1_aheadOf_14 {ret F n h} {v0 v1 v2 v3 r0 a} : eX1_aheadOf ret F (n + 1) 14 [v0, v1, v2, v3] (.ref a :: r0 :: []) h 0 0 = (h.1 a = (0, 1) ∧ eX1_aheadOf ret F n 17 [v0, v1, v2, v3] (va_rf (h.2.2.2.1 a 1) :: r0 :: []) h 0 0) := (amWp_dec rfl dX1_aheadOf_14 rfl).trans (amS4 (Nat.le_of_ble_eq_true rfl) (Nat.le_of_ble_eq_true rfl) (Nat.le_of_ble_eq_true rfl) (Nat.le_of_ble_eq_true rfl))
theorem wX1_aheadOf_17 {ret F n h} {v0 v1 v2 st x} : eX1_aheadOf ret F (n + 1) 17 [v0, v1, v2, .int x] (st) h 0 0 = (eX1_aheadOf ret F n 18 [v0, v1, v2, .int x] (.int x :: st) h 0 0) := (amWp_dec rfl dX1_aheadOf_17 rfl).trans rfl
theorem wX1_aheadOf_18 {ret F n h} {v0 v1 v2 v3 st x a} : eX1_aheadOf ret F (n + 1) 18 [v0, v1, v2, v3] (.int x :: .ref a :: st) h 0 0 = ((h.1 a).1 = 2 ∧ vp_in x (h.1 a).2 ∧ eX1_aheadOf ret F n 19 [v0, v1, v2, v3] (.int (h.2.1 a x.toNatClampNeg) :: st) h 0 0) := (amWp_dec rfl dX1_aheadOf_18 rfl).trans rfl
theorem wX1_aheadOf_19 {ret F n h} {v0 v2 v3 st x} : eX1_aheadOf ret F (n + 1) 19 [v0, .int x, v2, v3] (st) h 0 0 = (eX1_aheadOf ret F n 20 [v0, .int x, v2, v3] (.int x :: st) h 0 0) := (amWp_dec rfl dX1_aheadOf_19 rfl).trans rfl
theorem wX1_aheadOf_20 {ret F n h} {v0 v1 v2 v3 x1 x0 r0} : eX1_aheadOf ret F (n + 1) 20 [v0, v1, v2, v3] (.int x1 :: .int x0 :: r0 :: []) h 0 0 = (tX0_has [.int x0, .int x1] h (fun v h => eX1_aheadOf ret F n 23 [v0, v1, v2, v3] (v.toList ++ (r0 :: [])) h 0 0)) := (amWp_dec rfl dX1_aheadOf_20 rfl).trans (amS4 (Nat.le_of_ble_eq_true rfl) (Nat.le_of_ble_eq_true rfl) (Nat.le_of_ble_eq_true rfl) (Nat.le_of_ble_eq_true rfl))
theorem wX1_aheadOf_23 {ret F n h} {v0 v1 v2 v3 st x} : eX1_aheadOf ret F (n + 1) 23 [v0, v1, v2, v3] (.int x :: st) h 0 0 = ((x = 0 → eX1_aheadOf ret F n 32 [v0, v1, v2, v3] (st) h 0 0) ∧ (¬ x = 0 → eX1_aheadOf ret F n 26 [v0, v1, v2, v3] (st) h 0 0)) := (amWp_dec rfl dX1_aheadOf_23 rfl).trans rfl
theorem wX1_aheadOf_26 {ret F n h} {v0 v1 v2 v3 st} : eX1_aheadOf ret F (n + 1) 26 [v0, v1, v2, v3] (st) h 0 0 = (eX1_aheadOf ret F n 27 [v0, v1, v2, v3] (.int (nI 1) :: st) h 0 0) := (amWp_dec rfl dX1_aheadOf_26 rfl).trans rfl
theorem wX1_aheadOf_27 {ret F n h} {v0 v1 v2 st x} : eX1_aheadOf ret F (n + 1) 27 [v0, v1, v2, .int x] (st) h 0 0 = (eX1_aheadOf ret F n 28 [v0, v1, v2, .int x] (.int x :: st) h 0 0) := (amWp_dec rfl dX1_aheadOf_27 rfl).trans rfl
theorem wX1_aheadOf_28 {ret F n h} {v0 v1 v2 v3 st y x} : eX1_aheadOf ret F (n + 1) 28 [v0, v1, v2, v3] (.int y :: .int x :: st) h 0 0 = (eX1_aheadOf ret F n 29 [v0, v1, v2, v3] (.int (x <<< (y &&& 31)) :: st) h 0 0) := (amWp_dec rfl dX1_aheadOf_28 rfl).trans rfl
theorem wX1_aheadOf_29 {ret F n h} {v0 v1 v2 v3 st} : eX1_aheadOf ret F (n + 1) 29 [v0, v1, v2, v3] (st) h 0 0 = (eX1_aheadOf ret F n 33 [v0, v1, v2, v3] (st) h 0 0) := (amWp_dec rfl dX1_aheadOf_29 rfl).trans rfl
theorem wX1_aheadOf_32 {ret F n h} {v0 v1 v2 v3 st} : eX1_aheadOf ret F (n + 1) 32 [v0, v1, v2, v3] (st) h 0 0 = (eX1_aheadOf ret F n 33 [v0, v1, v2, v3] (.int (nI 0) :: st) h 0 0) := (amWp_dec rfl dX1_aheadOf_32 rfl).trans rfl
theorem wX1_aheadOf_33 {ret F n h} {v0 v1 v2 v3 st y x} : eX1_aheadOf ret F (n + 1) 33 [v0, v1, v2, v3] (.int y :: .int x :: st) h 0 0 = (eX1_aheadOf ret F n 34 [v0, v1, v2, v3] (.int (x ||| y) :: st) h 0 0) := (amWp_dec rfl dX1_aheadOf_33 rfl).trans rfl
theorem wX1_aheadOf_34 {ret F n h} {v0 v1 v2 v3 st x} : eX1_aheadOf ret F (n + 1) 34 [v0, v1, v2, v3] (.int x :: st) h 0 0 = (eX1_aheadOf ret F n 35 [v0, amClr v1, .int x, v3] (st) h 0 0) := (amWp_dec rfl dX1_aheadOf_34 rfl).trans (amTrue (Nat.le_of_ble_eq_true rfl))
theorem wX1_aheadOf_35 {ret F n h} {v0 v1 v2 st x} : eX1_aheadOf ret F (n + 1) 35 [v0, v1, v2, .int x] (st) h 0 0 = (eX1_aheadOf ret F n 38 [v0, v1, amClr v2, .int (x + nI 1)] (st) h 0 0) := (amWp_dec rfl dX1_aheadOf_35 rfl).trans rfl
theorem wX1_aheadOf_38 {ret F n h} {v0 v1 v2 v3 st} : eX1_aheadOf ret F (n + 1) 38 [v0, v1, v2, v3] (st) h 0 0 = (eX1_aheadOf ret F n 4 [v0, v1, v2, v3] (st) h 0 0) := (amWp_dec rfl dX1_aheadOf_38 rfl).trans rfl
theorem wX1_aheadOf_41 {ret F n h} {v0 v1 v3 st x} : eX1_aheadOf ret F (n + 1) 41 [v0, v1, .int x, v3] (st) h 0 0 = (eX1_aheadOf ret F n 42 [v0, v1, .int x, v3] (.int x :: st) h 0 0) := (amWp_dec rfl dX1_aheadOf_41 rfl).trans rfl
theorem wX1_aheadOf_42 {ret F n h} {v0 v1 v2 v3 x} : eX1_aheadOf ret F (n + 1) 42 [v0, v1, v2, v3] ([.int x]) h 0 0 = (ret (some (.int x)) h 0 0) := (amWp_dec rfl dX1_aheadOf_42 rfl).trans (amTrue ⟨_, rfl, rfl⟩)
theorem evX1_aheadOf (l : Launch) (G : amG) : ∀ pc S i sz, amLk rX1_aheadOf pc = some S → decode cX1_aheadOf pc = .ok (i, sz) → amSiteP pc G l yX1_aheadOf.cls yX1_aheadOf.name yX1_aheadOf.desc (amRm 2 0 0) i sz S.1 S.2.1 S.2.2.1 S.2.2.2 := amLk_ok (by
  refine List.forall_mem_cons.mpr ⟨⟨_, _, dX1_aheadOf_6, amSite.P (amSiteV (C := RX1) (metX1_many l G) rfl (by decide) (by decide) (lw_V q506 q479 q480 q87 q481) ⟨_, rfl, rfl⟩ ⟨rfl, by decide +kernel, by decide +kernel, by decide +kernel⟩)⟩, ?_⟩
  refine List.forall_mem_cons.mpr ⟨⟨_, _, dX1_aheadOf_14, amSite.P (amSiteGet ⟨_, rfl, by decide, Or.inl q148⟩)⟩, ?_⟩
  refine List.forall_mem_cons.mpr ⟨⟨_, _, dX1_aheadOf_20, amSite.P (amSiteSN (host := "ReadingStages") (metX0_has l G) rfl (by decide) (by decide) q437 (List.mem_of_getElem? (i := 1) rfl) q436 q86 ⟨by decide +kernel, by decide +kernel, by decide +kernel⟩)⟩, ?_⟩
  exact fun _ h => absurd h List.not_mem_nil)
theorem goX1_aheadOf {ret F} (hF : amCld cX1_aheadOf kX1_aheadOf (amLk rX1_aheadOf) (some .int) 0 0 ret F) (n : Nat) {pc ls st h k z} (q : sX1_aheadOf ret F n pc ls st h k z) : F pc ls st h k z := hF.1 n pc ls st h k z q
theorem metX1_aheadOf (l : Launch) (G : amG) : amMet l G yX1_aheadOf (ws_ yX1_aheadOf cX1_aheadOf 4 (some .int)) 2 0 0 tX1_aheadOf := by
  refine amMet_of (cut := kX1_aheadOf) (by decide +kernel) (evX1_aheadOf l G) ?_
  intro as h K hT
  match as, hT with
  | [.ref a, .int b0], ⟨S, b, e0, ⟨h1, h2, h3, h4, h5, h6, h7⟩, hS, hb, hK⟩ =>
  refine ⟨Nat.le_of_ble_eq_true rfl, fun F hF => ?_⟩
  show F 0 [.ref a, .int b0, .retAddr 0, .retAddr 0] [] h 0 0
  obtain ⟨a, rfl⟩ : ∃ i : Nat, i = a := ⟨_, rfl⟩
  subst e0
  have hn := hS.n7
  have la := hS.la
  have hm := hS.many
  have loop : ∀ t p, p + t = S.ord.length → F 4 [.ref a, .int (nI b), .int (nI ((List.range p).foldl (aoStep S.ahead b) 0)), .int (nI p)] [] h 0 0 := by
    intro t
    induction t with
    | zero =>
      intro p e1
      have q : (S.ord.length ≤ p) = True := eq_true (by omega)
      have e : p = S.ord.length := by omega
      subst e
      refine goX1_aheadOf hF 60 ?_
      simp (disch := omega) only [wX1_aheadOf_0, uX1_aheadOf_0, wX1_aheadOf_1, wX1_aheadOf_2, wX1_aheadOf_3, wX1_aheadOf_4, uX1_aheadOf_4, wX1_aheadOf_5, wX1_aheadOf_6, wX1_aheadOf_9, wX1_aheadOf_12, wX1_aheadOf_13, wX1_aheadOf_14, wX1_aheadOf_17, wX1_aheadOf_18, wX1_aheadOf_19, wX1_aheadOf_20, wX1_aheadOf_23, wX1_aheadOf_26, wX1_aheadOf_27, wX1_aheadOf_28, wX1_aheadOf_29, wX1_aheadOf_32, wX1_aheadOf_33, wX1_aheadOf_34, wX1_aheadOf_35, wX1_aheadOf_38, wX1_aheadOf_41, wX1_aheadOf_42, amSI_1, amSI_2, amSI_3, amSI_s, amU_at, amIsR_ref, amIsR_null, amIsR_rf, amRf_some, amRf_none, amClr_int, amClr_ref, amClr_null, amClr_long, amClr_ra, amClr_rf, amFit_int, amFit_oref, amFit_aref, amFit_onull, amFit_anull, amOptSome, amOptNone, List.cons_append, List.nil_append, true_and, and_true, true_implies, not_true_eq_false, not_false_eq_true, false_implies, and_self, Nat.add_zero, Nat.zero_add, ne_eq, Prod.mk.injEq, amC01_0, amC01_1, amC01_nb, amNb0, amNb1, amTcpI_d, Nat.reduceLeDiff, Nat.reduceAdd, Nat.reduceSub, Nat.reduceEqDiff, Nat.le_refl, amN0le, h1, h2, h3, h4, h5, h6, tX1_many_d, h7.1, hm, amLeI, q, amAdd]
      rw [HS.aheadOf, la] at hK
      exact amRet.of (by decide) (by decide) hK
    | succ t ih =>
      intro p e1
      have q : (S.ord.length ≤ p) = False := eq_false (by omega)
      have nx := ih (p + 1) (by omega)
      have ap := hS.ahead p (by omega)
      have al := hS.al (k := p) (by omega)
      rw [range_fold] at nx
      refine goX1_aheadOf hF 60 ?_
      simp (disch := omega) only [wX1_aheadOf_0, uX1_aheadOf_0, wX1_aheadOf_1, wX1_aheadOf_2, wX1_aheadOf_3, wX1_aheadOf_4, uX1_aheadOf_4, wX1_aheadOf_5, wX1_aheadOf_6, wX1_aheadOf_9, wX1_aheadOf_12, wX1_aheadOf_13, wX1_aheadOf_14, wX1_aheadOf_17, wX1_aheadOf_18, wX1_aheadOf_19, wX1_aheadOf_20, wX1_aheadOf_23, wX1_aheadOf_26, wX1_aheadOf_27, wX1_aheadOf_28, wX1_aheadOf_29, wX1_aheadOf_32, wX1_aheadOf_33, wX1_aheadOf_34, wX1_aheadOf_35, wX1_aheadOf_38, wX1_aheadOf_41, wX1_aheadOf_42, amSI_1, amSI_2, amSI_3, amSI_s, amU_at, amIsR_ref, amIsR_null, amIsR_rf, amRf_some, amRf_none, amClr_int, amClr_ref, amClr_null, amClr_long, amClr_ra, amClr_rf, amFit_int, amFit_oref, amFit_aref, amFit_onull, amFit_anull, amOptSome, amOptNone, List.cons_append, List.nil_append, true_and, and_true, true_implies, not_true_eq_false, not_false_eq_true, false_implies, and_self, Nat.add_zero, Nat.zero_add, ne_eq, Prod.mk.injEq, amC01_0, amC01_1, amC01_nb, amNb0, amNb1, amTcpI_d, Nat.reduceLeDiff, Nat.reduceAdd, Nat.reduceSub, Nat.reduceEqDiff, Nat.le_refl, amN0le, h1, h2, h3, h4, h5, h6, tX1_many_d, tX0_has_d, h7.1, hm, amLeI, q, amAdd, amVI, amCl_nI, ap, nx_or, nx_hasI, nx_p2]
      refine ⟨fun r => ?_, fun r => ?_⟩
      · rw [aoStep, if_neg r] at nx
        rw [Nat.or_zero]
        exact nx
      · rw [aoStep, if_pos (Classical.not_not.mp r)] at nx
        exact nx
  refine goX1_aheadOf hF 60 ?_
  simp (disch := omega) only [wX1_aheadOf_0, uX1_aheadOf_0, wX1_aheadOf_1, wX1_aheadOf_2, wX1_aheadOf_3, wX1_aheadOf_4, uX1_aheadOf_4, wX1_aheadOf_5, wX1_aheadOf_6, wX1_aheadOf_9, wX1_aheadOf_12, wX1_aheadOf_13, wX1_aheadOf_14, wX1_aheadOf_17, wX1_aheadOf_18, wX1_aheadOf_19, wX1_aheadOf_20, wX1_aheadOf_23, wX1_aheadOf_26, wX1_aheadOf_27, wX1_aheadOf_28, wX1_aheadOf_29, wX1_aheadOf_32, wX1_aheadOf_33, wX1_aheadOf_34, wX1_aheadOf_35, wX1_aheadOf_38, wX1_aheadOf_41, wX1_aheadOf_42, amSI_1, amSI_2, amSI_3, amSI_s, amU_at, amIsR_ref, amIsR_null, amIsR_rf, amRf_some, amRf_none, amClr_int, amClr_ref, amClr_null, amClr_long, amClr_ra, amClr_rf, amFit_int, amFit_oref, amFit_aref, amFit_onull, amFit_anull, amOptSome, amOptNone, List.cons_append, List.nil_append, true_and, and_true, true_implies, not_true_eq_false, not_false_eq_true, false_implies, and_self, Nat.add_zero, Nat.zero_add, ne_eq, Prod.mk.injEq, amC01_0, amC01_1, amC01_nb, amNb0, amNb1, amTcpI_d, Nat.reduceLeDiff, Nat.reduceAdd, Nat.reduceSub, Nat.reduceEqDiff, Nat.le_refl, amN0le]
  exact loop S.ord.length 0 (by omega)
theorem tX1_aheadOf_d {a : Nat} {b0 : Int32} {h : amH} {K : Option Value → amH → Prop} : tX1_aheadOf [.ref a, .int b0] h K = ∃ (S : HS) (b : Nat), b0 = nI b ∧ hsAt h a ∧ HsIs h.2.1 a S ∧ b < S.ord.length ∧ K (some (.int (nI (S.aheadOf b)))) h := rfl
/-- whether one may be put ahead of another -/
def HS.mayBe (S : HS) (a b : Nat) : Bool := a != b && !(S.behind b).testBit a
def tX1_mayBeAhead : amT := fun as h K => match as with
  | [.ref a, .int x0, .int y0] => ∃ (S : HS) (x y : Nat), x0 = nI x ∧ y0 = nI y ∧ hsAt h a ∧ HsIs h.2.1 a S ∧ x < S.ord.length ∧ y < S.ord.length ∧ K (some (.int (amC01 (S.mayBe x y = true)))) h
  | _ => False
/-! ReadingStages$House.mayBeAhead(II)Z -/
def kX1_mayBeAhead : Nat → Bool := fun pc => pc == 22
def rX1_mayBeAhead : List (Nat × amS) := [(7, 2, 0, 0, (amRecv 1 tX1_behind)), (11, 2, 0, 0, tX0_has)]
def eX1_mayBeAhead (ret : Option Value → amH → Nat → Nat → Prop) (F : amX) : Nat → amX := amWp cX1_mayBeAhead kX1_mayBeAhead (amLk rX1_mayBeAhead) (some .boolean) 0 0 ret F
def sX1_mayBeAhead (ret : Option Value → amH → Nat → Nat → Prop) (F : amX) : Nat → amX := amWs cX1_mayBeAhead kX1_mayBeAhead (amLk rX1_mayBeAhead) (some .boolean) 0 0 ret F
theorem wX1_mayBeAhead_0 {ret F n h} {v0 v2 st x} : eX1_mayBeAhead ret F (n + 1) 0 [v0, .int x, v2] (st) h 0 0 = (eX1_mayBeAhead ret F n 1 [v0, .int x, v2] (.int x :: st) h 0 0) := (amWp_dec rfl dX1_mayBeAhead_0 rfl).trans rfl
theorem uX1_mayBeAhead_0 {ret F n h} {v0 v2 st x} : sX1_mayBeAhead ret F n 0 [v0, .int x, v2] (st) h 0 0 = (eX1_mayBeAhead ret F n 1 [v0, .int x, v2] (.int x :: st) h 0 0) := (amWs_dec dX1_mayBeAhead_0 rfl).trans rfl
theorem wX1_mayBeAhead_1 {ret F n h} {v0 v1 st x} : eX1_mayBeAhead ret F (n + 1) 1 [v0, v1, .int x] (st) h 0 0 = (eX1_mayBeAhead ret F n 2 [v0, v1, .int x] (.int x :: st) h 0 0) := (amWp_dec rfl dX1_mayBeAhead_1 rfl).trans rfl
theorem wX1_mayBeAhead_2 {ret F n h} {v0 v1 v2 st y x} : eX1_mayBeAhead ret F (n + 1) 2 [v0, v1, v2] (.int y :: .int x :: st) h 0 0 = ((x = y → eX1_mayBeAhead ret F n 21 [v0, v1, v2] (st) h 0 0) ∧ (¬ x = y → eX1_mayBeAhead ret F n 5 [v0, v1, v2] (st) h 0 0)) := (amWp_dec rfl dX1_mayBeAhead_2 rfl).trans rfl
theorem wX1_mayBeAhead_5 {ret F n h} {v0 v1 v2 st} : eX1_mayBeAhead ret F (n + 1) 5 [v0, v1, v2] (st) h 0 0 = (amIsR v0 ∧ eX1_mayBeAhead ret F n 6 [v0, v1, v2] (v0 :: st) h 0 0) := (amWp_dec rfl dX1_mayBeAhead_5 rfl).trans rfl
theorem wX1_mayBeAhead_6 {ret F n h} {v0 v1 st x} : eX1_mayBeAhead ret F (n + 1) 6 [v0, v1, .int x] (st) h 0 0 = (eX1_mayBeAhead ret F n 7 [v0, v1, .int x] (.int x :: st) h 0 0) := (amWp_dec rfl dX1_mayBeAhead_6 rfl).trans rfl
theorem wX1_mayBeAhead_7 {ret F n h} {v0 v1 v2 x1 x0} : eX1_mayBeAhead ret F (n + 1) 7 [v0, v1, v2] (.int x1 :: .ref x0 :: []) h 0 0 = (h.1 x0 = (0, 1) ∧ tX1_behind [.ref x0, .int x1] h (fun v h => eX1_mayBeAhead ret F n 10 [v0, v1, v2] (v.toList ++ ([])) h 0 0)) := (amWp_dec rfl dX1_mayBeAhead_7 rfl).trans (amS4 (Nat.le_of_ble_eq_true rfl) (Nat.le_of_ble_eq_true rfl) (Nat.le_of_ble_eq_true rfl) (Nat.le_of_ble_eq_true rfl))
theorem wX1_mayBeAhead_10 {ret F n h} {v0 v2 st x} : eX1_mayBeAhead ret F (n + 1) 10 [v0, .int x, v2] (st) h 0 0 = (eX1_mayBeAhead ret F n 11 [v0, .int x, v2] (.int x :: st) h 0 0) := (amWp_dec rfl dX1_mayBeAhead_10 rfl).trans rfl
theorem wX1_mayBeAhead_11 {ret F n h} {v0 v1 v2 x1 x0} : eX1_mayBeAhead ret F (n + 1) 11 [v0, v1, v2] (.int x1 :: .int x0 :: []) h 0 0 = (tX0_has [.int x0, .int x1] h (fun v h => eX1_mayBeAhead ret F n 14 [v0, v1, v2] (v.toList ++ ([])) h 0 0)) := (amWp_dec rfl dX1_mayBeAhead_11 rfl).trans (amS4 (Nat.le_of_ble_eq_true rfl) (Nat.le_of_ble_eq_true rfl) (Nat.le_of_ble_eq_true rfl) (Nat.le_of_ble_eq_true rfl))
theorem wX1_mayBeAhead_14 {ret F n h} {v0 v1 v2 st x} : eX1_mayBeAhead ret F (n + 1) 14 [v0, v1, v2] (.int x :: st) h 0 0 = ((¬ x = 0 → eX1_mayBeAhead ret F n 21 [v0, v1, v2] (st) h 0 0) ∧ (x = 0 → eX1_mayBeAhead ret F n 17 [v0, v1, v2] (st) h 0 0)) := (amWp_dec rfl dX1_mayBeAhead_14 rfl).trans rfl
theorem wX1_mayBeAhead_17 {ret F n h} {v0 v1 v2 st} : eX1_mayBeAhead ret F (n + 1) 17 [v0, v1, v2] (st) h 0 0 = (eX1_mayBeAhead ret F n 18 [v0, v1, v2] (.int (nI 1) :: st) h 0 0) := (amWp_dec rfl dX1_mayBeAhead_17 rfl).trans rfl
theorem wX1_mayBeAhead_18 {ret F n h} {v0 v1 v2 st} : eX1_mayBeAhead ret F (n + 1) 18 [v0, v1, v2] (st) h 0 0 = (eX1_mayBeAhead ret F n 22 [v0, v1, v2] (st) h 0 0) := (amWp_dec rfl dX1_mayBeAhead_18 rfl).trans rfl
theorem wX1_mayBeAhead_21 {ret F n h} {v0 v1 v2 st} : eX1_mayBeAhead ret F (n + 1) 21 [v0, v1, v2] (st) h 0 0 = (eX1_mayBeAhead ret F n 22 [v0, v1, v2] (.int (nI 0) :: st) h 0 0) := (amWp_dec rfl dX1_mayBeAhead_21 rfl).trans rfl
theorem wX1_mayBeAhead_22 {ret F n ls st h k z} : eX1_mayBeAhead ret F (n + 1) 22 ls st h k z = F 22 ls st h k z := amWp_cut rfl
theorem uX1_mayBeAhead_22 {ret F n h} {v0 v1 v2 x} : sX1_mayBeAhead ret F n 22 [v0, v1, v2] ([.int x]) h 0 0 = (narrow .boolean (.int x) = .int x ∧ ret (some (.int x)) h 0 0) := (amWs_dec dX1_mayBeAhead_22 rfl).trans (amRetTy)
theorem evX1_mayBeAhead (l : Launch) (G : amG) : ∀ pc S i sz, amLk rX1_mayBeAhead pc = some S → decode cX1_mayBeAhead pc = .ok (i, sz) → amSiteP pc G l yX1_mayBeAhead.cls yX1_mayBeAhead.name yX1_mayBeAhead.desc (amRm 3 0 0) i sz S.1 S.2.1 S.2.2.1 S.2.2.2 := amLk_ok (by
  refine List.forall_mem_cons.mpr ⟨⟨_, _, dX1_mayBeAhead_7, amSite.P (amSiteV (C := RX1) (metX1_behind l G) rfl (by decide) (by decide) (lw_V q922 q923 q924 q87 q925) ⟨_, rfl, rfl⟩ ⟨rfl, by decide +kernel, by decide +kernel, by decide +kernel⟩)⟩, ?_⟩
  refine List.forall_mem_cons.mpr ⟨⟨_, _, dX1_mayBeAhead_11, amSite.P (amSiteSN (host := "ReadingStages") (metX0_has l G) rfl (by decide) (by decide) q437 (List.mem_of_getElem? (i := 1) rfl) q436 q86 ⟨by decide +kernel, by decide +kernel, by decide +kernel⟩)⟩, ?_⟩
  exact fun _ h => absurd h List.not_mem_nil)
theorem goX1_mayBeAhead {ret F} (hF : amCld cX1_mayBeAhead kX1_mayBeAhead (amLk rX1_mayBeAhead) (some .boolean) 0 0 ret F) (n : Nat) {pc ls st h k z} (q : sX1_mayBeAhead ret F n pc ls st h k z) : F pc ls st h k z := hF.1 n pc ls st h k z q
theorem metX1_mayBeAhead (l : Launch) (G : amG) : amMet l G yX1_mayBeAhead (ws_ yX1_mayBeAhead cX1_mayBeAhead 3 (some .boolean)) 3 0 0 tX1_mayBeAhead := by
  refine amMet_of (cut := kX1_mayBeAhead) (by decide +kernel) (evX1_mayBeAhead l G) ?_
  intro as h K hT
  match as, hT with
  | [.ref a, .int x0, .int y0], ⟨S, x, y, e1, e2, hA, hS, hx, hy, hK⟩ =>
  refine ⟨Nat.le_of_ble_eq_true rfl, fun F hF => ?_⟩
  show F 0 [.ref a, .int x0, .int y0] [] h 0 0
  obtain ⟨a, rfl⟩ : ∃ i : Nat, i = a := ⟨_, rfl⟩
  subst e1; subst e2
  have hn := hS.n7
  have fin : ∀ c0 : Int32, c0 = amC01 (S.mayBe x y = true) → F 22 [.ref a, .int (nI x), .int (nI y)] [.int c0] h 0 0 := by
    intro c0 e0
    subst e0
    refine goX1_mayBeAhead hF 30 ?_
    simp (disch := omega) only [wX1_mayBeAhead_0, uX1_mayBeAhead_0, wX1_mayBeAhead_1, wX1_mayBeAhead_2, wX1_mayBeAhead_5, wX1_mayBeAhead_6, wX1_mayBeAhead_7, wX1_mayBeAhead_10, wX1_mayBeAhead_11, wX1_mayBeAhead_14, wX1_mayBeAhead_17, wX1_mayBeAhead_18, wX1_mayBeAhead_21, wX1_mayBeAhead_22, uX1_mayBeAhead_22, amSI_1, amSI_2, amSI_3, amSI_s, amU_at, amIsR_ref, amIsR_null, amIsR_rf, amRf_some, amRf_none, amClr_int, amClr_ref, amClr_null, amClr_long, amClr_ra, amClr_rf, amFit_int, amFit_oref, amFit_aref, amFit_onull, amFit_anull, amOptSome, amOptNone, List.cons_append, List.nil_append, true_and, and_true, true_implies, not_true_eq_false, not_false_eq_true, false_implies, and_self, Nat.add_zero, Nat.zero_add, ne_eq, Prod.mk.injEq, amC01_0, amC01_1, amC01_nb, amNb0, amNb1, amTcpI_d, Nat.reduceLeDiff, Nat.reduceAdd, Nat.reduceSub, Nat.reduceEqDiff, Nat.le_refl, amN0le]
    exact amRet.of (by decide) (by decide) hK
  have hbl : S.behind y < 128 := bhN_lt hS.ba 7 _ (hS.al hy)
  refine goX1_mayBeAhead hF 30 ?_
  simp (disch := omega) only [wX1_mayBeAhead_0, uX1_mayBeAhead_0, wX1_mayBeAhead_1, wX1_mayBeAhead_2, wX1_mayBeAhead_5, wX1_mayBeAhead_6, wX1_mayBeAhead_7, wX1_mayBeAhead_10, wX1_mayBeAhead_11, wX1_mayBeAhead_14, wX1_mayBeAhead_17, wX1_mayBeAhead_18, wX1_mayBeAhead_21, wX1_mayBeAhead_22, uX1_mayBeAhead_22, amSI_1, amSI_2, amSI_3, amSI_s, amU_at, amIsR_ref, amIsR_null, amIsR_rf, amRf_some, amRf_none, amClr_int, amClr_ref, amClr_null, amClr_long, amClr_ra, amClr_rf, amFit_int, amFit_oref, amFit_aref, amFit_onull, amFit_anull, amOptSome, amOptNone, List.cons_append, List.nil_append, true_and, and_true, true_implies, not_true_eq_false, not_false_eq_true, false_implies, and_self, Nat.add_zero, Nat.zero_add, ne_eq, Prod.mk.injEq, amC01_0, amC01_1, amC01_nb, amNb0, amNb1, amTcpI_d, Nat.reduceLeDiff, Nat.reduceAdd, Nat.reduceSub, Nat.reduceEqDiff, Nat.le_refl, amN0le, tX1_behind_d, hA.1, amEqI]
  refine ⟨fun q => ?_, fun q => ⟨S, y, rfl, hA, hS, hy, ?_⟩⟩
  · exact fin _ (amC01_f (by simp [HS.mayBe, q])).symm
  · simp (disch := omega) only [wX1_mayBeAhead_0, uX1_mayBeAhead_0, wX1_mayBeAhead_1, wX1_mayBeAhead_2, wX1_mayBeAhead_5, wX1_mayBeAhead_6, wX1_mayBeAhead_7, wX1_mayBeAhead_10, wX1_mayBeAhead_11, wX1_mayBeAhead_14, wX1_mayBeAhead_17, wX1_mayBeAhead_18, wX1_mayBeAhead_21, wX1_mayBeAhead_22, uX1_mayBeAhead_22, amSI_1, amSI_2, amSI_3, amSI_s, amU_at, amIsR_ref, amIsR_null, amIsR_rf, amRf_some, amRf_none, amClr_int, amClr_ref, amClr_null, amClr_long, amClr_ra, amClr_rf, amFit_int, amFit_oref, amFit_aref, amFit_onull, amFit_anull, amOptSome, amOptNone, List.cons_append, List.nil_append, true_and, and_true, true_implies, not_true_eq_false, not_false_eq_true, false_implies, and_self, Nat.add_zero, Nat.zero_add, ne_eq, Prod.mk.injEq, amC01_0, amC01_1, amC01_nb, amNb0, amNb1, amTcpI_d, Nat.reduceLeDiff, Nat.reduceAdd, Nat.reduceSub, Nat.reduceEqDiff, Nat.le_refl, amN0le, tX0_has_d, nx_hasI]
    refine ⟨fun r => fin _ (amC01_f ?_).symm, fun r => fin _ (amC01_t ?_).symm⟩
    · simp [HS.mayBe, Classical.not_not.mp r]
    · simp [HS.mayBe, q, r]
theorem tX1_mayBeAhead_d {a : Nat} {x0 y0 : Int32} {h : amH} {K : Option Value → amH → Prop} : tX1_mayBeAhead [.ref a, .int x0, .int y0] h K = ∃ (S : HS) (x y : Nat), x0 = nI x ∧ y0 = nI y ∧ hsAt h a ∧ HsIs h.2.1 a S ∧ x < S.ord.length ∧ y < S.ord.length ∧ K (some (.int (amC01 (S.mayBe x y = true)))) h := rfl
/-- a set of books without one, those behind it one less -/
def outN (k x : Nat) : Nat := x % 2 ^ k + x / 2 ^ (k + 1) * 2 ^ k
theorem outB : ∀ k, k < 7 → ∀ x, x < 128 → ((nI x &&& ((nI 1 <<< (nI k &&& 31)) - nI 1)) ||| ((nI x >>> (nI 1 &&& 31)) &&& -(nI 1 <<< (nI k &&& 31)))).toInt8.toInt32 = nI (outN k x) := by decide +kernel
theorem outN_lt : ∀ k, k < 7 → ∀ x, x < 128 → outN k x < 64 := by decide +kernel
/-- without a book -/
def HS.lose (S : HS) (k : Nat) : HS := (lessL k (S.ord.eraseIdx (S.ord.idxOf k)), S.sets.eraseIdx k, (S.ahead.eraseIdx k).map (outN k), S.prior, S.span, S.bound, S.rule, S.draw)
theorem tX2_lose_d {b : Nat} {x0 : Int32} {h : amH} {K : Option Value → amH → Prop} : tX2_lose [.ref b, .int x0] h K = ∃ (l : List Nat) (x : Nat), x0 = nI x ∧ bdAt h b ∧ amN0 ≤ b ∧ bdIs h.2.1 b l ∧ l.Nodup ∧ x ∈ l ∧ ∀ m', bdIs m' b (lessL x (l.eraseIdx (l.idxOf x))) → bdFr h.2.1 m' b → K none (amSI h m') := rfl
theorem map_getD {f : Nat → Nat} {l : List Nat} {i : Nat} (h : i < l.length) : (l.map f).getD i 0 = f (l.getD i 0) := by
  simp [List.getD_eq_getElem?_getD, h]
def tX1_lose : amT := fun as h K => match as with
  | [.ref a, .int x0] => ∃ (S : HS) (k : Nat), x0 = nI k ∧ hsAt h a ∧ amN0 ≤ a ∧ HsIs h.2.1 a S ∧ S.ord.Nodup ∧ k ∈ S.ord ∧ k < S.ord.length ∧ ∀ m', HsIs m' a (S.lose k) → hsFr h.2.1 m' a → K none (amSI h m')
  | _ => False
/-! ReadingStages$House.lose(I)V -/
def kX1_lose : Nat → Bool := fun pc => pc == 8 || pc == 52
def rX1_lose : List (Nat × amS) := [(1, 1, 0, 0, amTget 1 2), (5, 2, 0, 0, (amRecv 2 tX2_lose)), (9, 1, 0, 0, amTget 1 0), (16, 1, 0, 0, amTget 1 0), (21, 1, 0, 0, (amRecv 1 tX1_many)), (26, 5, 0, 0, amTcpI), (30, 1, 0, 0, amTget 1 1), (37, 1, 0, 0, amTget 1 1), (42, 1, 0, 0, (amRecv 1 tX1_many)), (47, 5, 0, 0, amTcpI), (54, 1, 0, 0, (amRecv 1 tX1_many)), (61, 1, 0, 0, amTget 1 1), (66, 1, 0, 0, amTget 1 1), (78, 1, 0, 0, amTget 1 1)]
def eX1_lose (ret : Option Value → amH → Nat → Nat → Prop) (F : amX) : Nat → amX := amWp cX1_lose kX1_lose (amLk rX1_lose) none 0 0 ret F
def sX1_lose (ret : Option Value → amH → Nat → Nat → Prop) (F : amX) : Nat → amX := amWs cX1_lose kX1_lose (amLk rX1_lose) none 0 0 ret F
theorem wX1_lose_0 {ret F n h} {v0 v1 v2 st} : eX1_lose ret F (n + 1) 0 [v0, v1, v2] (st) h 0 0 = (amIsR v0 ∧ eX1_lose ret F n 1 [v0, v1, v2] (v0 :: st) h 0 0) := (amWp_dec rfl dX1_lose_0 rfl).trans rfl
theorem uX1_lose_0 {ret F n h} {v0 v1 v2 st} : sX1_lose ret F n 0 [v0, v1, v2] (st) h 0 0 = (amIsR v0 ∧ eX1_lose ret F n 1 [v0, v1, v2] (v0 :: st) h 0 0) := (amWs_dec dX1_lose_0 rfl).trans rfl
theorem wX1_lose_1 {ret F n h} {v0 v1 v2 a} : eX1_lose ret F (n + 1) 1 [v0, v1, v2] (.ref a :: []) h 0 0 = (h.1 a = (0, 1) ∧ eX1_lose ret F n 4 [v0, v1, v2] (va_rf (h.2.2.2.1 a 2) :: []) h 0 0) := (amWp_dec rfl dX1_lose_1 rfl).trans (amS4 (Nat.le_of_ble_eq_true rfl) (Nat.le_of_ble_eq_true rfl) (Nat.le_of_ble_eq_true rfl) (Nat.le_of_ble_eq_true rfl))
theorem wX1_lose_4 {ret F n h} {v0 v2 st x} : eX1_lose ret F (n + 1) 4 [v0, .int x, v2] (st) h 0 0 = (eX1_lose ret F n 5 [v0, .int x, v2] (.int x :: st) h 0 0) := (amWp_dec rfl dX1_lose_4 rfl).trans rfl
theorem wX1_lose_5 {ret F n h} {v0 v1 v2 x1 x0} : eX1_lose ret F (n + 1) 5 [v0, v1, v2] (.int x1 :: .ref x0 :: []) h 0 0 = (h.1 x0 = (0, 2) ∧ tX2_lose [.ref x0, .int x1] h (fun v h => eX1_lose ret F n 8 [v0, v1, v2] (v.toList ++ ([])) h 0 0)) := (amWp_dec rfl dX1_lose_5 rfl).trans (amS4 (Nat.le_of_ble_eq_true rfl) (Nat.le_of_ble_eq_true rfl) (Nat.le_of_ble_eq_true rfl) (Nat.le_of_ble_eq_true rfl))
theorem wX1_lose_8 {ret F n ls st h k z} : eX1_lose ret F (n + 1) 8 ls st h k z = F 8 ls st h k z := amWp_cut rfl
theorem uX1_lose_8 {ret F n h} {v0 v1 v2 st} : sX1_lose ret F n 8 [v0, v1, v2] (st) h 0 0 = (amIsR v0 ∧ eX1_lose ret F n 9 [v0, v1, v2] (v0 :: st) h 0 0) := (amWs_dec dX1_lose_8 rfl).trans rfl
theorem wX1_lose_9 {ret F n h} {v0 v1 v2 a} : eX1_lose ret F (n + 1) 9 [v0, v1, v2] (.ref a :: []) h 0 0 = (h.1 a = (0, 1) ∧ eX1_lose ret F n 12 [v0, v1, v2] (va_rf (h.2.2.2.1 a 0) :: []) h 0 0) := (amWp_dec rfl dX1_lose_9 rfl).trans (amS4 (Nat.le_of_ble_eq_true rfl) (Nat.le_of_ble_eq_true rfl) (Nat.le_of_ble_eq_true rfl) (Nat.le_of_ble_eq_true rfl))
theorem wX1_lose_12 {ret F n h} {v0 v2 st x} : eX1_lose ret F (n + 1) 12 [v0, .int x, v2] (st) h 0 0 = (eX1_lose ret F n 13 [v0, .int x, v2] (.int x :: st) h 0 0) := (amWp_dec rfl dX1_lose_12 rfl).trans rfl
theorem wX1_lose_13 {ret F n h} {v0 v1 v2 st} : eX1_lose ret F (n + 1) 13 [v0, v1, v2] (st) h 0 0 = (eX1_lose ret F n 14 [v0, v1, v2] (.int (nI 1) :: st) h 0 0) := (amWp_dec rfl dX1_lose_13 rfl).trans rfl
theorem wX1_lose_14 {ret F n h} {v0 v1 v2 st y x} : eX1_lose ret F (n + 1) 14 [v0, v1, v2] (.int y :: .int x :: st) h 0 0 = (eX1_lose ret F n 15 [v0, v1, v2] (.int (x + y) :: st) h 0 0) := (amWp_dec rfl dX1_lose_14 rfl).trans rfl
theorem wX1_lose_15 {ret F n h} {v0 v1 v2 st} : eX1_lose ret F (n + 1) 15 [v0, v1, v2] (st) h 0 0 = (amIsR v0 ∧ eX1_lose ret F n 16 [v0, v1, v2] (v0 :: st) h 0 0) := (amWp_dec rfl dX1_lose_15 rfl).trans rfl
theorem wX1_lose_16 {ret F n h} {v0 v1 v2 r0 r1 a} : eX1_lose ret F (n + 1) 16 [v0, v1, v2] (.ref a :: r0 :: r1 :: []) h 0 0 = (h.1 a = (0, 1) ∧ eX1_lose ret F n 19 [v0, v1, v2] (va_rf (h.2.2.2.1 a 0) :: r0 :: r1 :: []) h 0 0) := (amWp_dec rfl dX1_lose_16 rfl).trans (amS4 (Nat.le_of_ble_eq_true rfl) (Nat.le_of_ble_eq_true rfl) (Nat.le_of_ble_eq_true rfl) (Nat.le_of_ble_eq_true rfl))
theorem wX1_lose_19 {ret F n h} {v0 v2 st x} : eX1_lose ret F (n + 1) 19 [v0, .int x, v2] (st) h 0 0 = (eX1_lose ret F n 20 [v0, .int x, v2] (.int x :: st) h 0 0) := (amWp_dec rfl dX1_lose_19 rfl).trans rfl
theorem wX1_lose_20 {ret F n h} {v0 v1 v2 st} : eX1_lose ret F (n + 1) 20 [v0, v1, v2] (st) h 0 0 = (amIsR v0 ∧ eX1_lose ret F n 21 [v0, v1, v2] (v0 :: st) h 0 0) := (amWp_dec rfl dX1_lose_20 rfl).trans rfl
theorem wX1_lose_21 {ret F n h} {v0 v1 v2 x0 r0 r1 r2 r3} : eX1_lose ret F (n + 1) 21 [v0, v1, v2] (.ref x0 :: r0 :: r1 :: r2 :: r3 :: []) h 0 0 = (h.1 x0 = (0, 1) ∧ tX1_many [.ref x0] h (fun v h => eX1_lose ret F n 24 [v0, v1, v2] (v.toList ++ (r0 :: r1 :: r2 :: r3 :: [])) h 0 0)) := (amWp_dec rfl dX1_lose_21 rfl).trans (amS4 (Nat.le_of_ble_eq_true rfl) (Nat.le_of_ble_eq_true rfl) (Nat.le_of_ble_eq_true rfl) (Nat.le_of_ble_eq_true rfl))
theorem wX1_lose_24 {ret F n h} {v0 v2 st x} : eX1_lose ret F (n + 1) 24 [v0, .int x, v2] (st) h 0 0 = (eX1_lose ret F n 25 [v0, .int x, v2] (.int x :: st) h 0 0) := (amWp_dec rfl dX1_lose_24 rfl).trans rfl
theorem wX1_lose_25 {ret F n h} {v0 v1 v2 st y x} : eX1_lose ret F (n + 1) 25 [v0, v1, v2] (.int y :: .int x :: st) h 0 0 = (eX1_lose ret F n 26 [v0, v1, v2] (.int (x - y) :: st) h 0 0) := (amWp_dec rfl dX1_lose_25 rfl).trans rfl
theorem wX1_lose_26 {ret F n h} {v0 v1 v2 x4 x3 x2 x1 x0} : eX1_lose ret F (n + 1) 26 [v0, v1, v2] (.int x4 :: .int x3 :: .ref x2 :: .int x1 :: .ref x0 :: []) h 0 0 = (amTcpI [.ref x0, .int x1, .ref x2, .int x3, .int x4] h (fun v h => eX1_lose ret F n 29 [v0, v1, v2] (v.toList ++ ([])) h 0 0)) := (amWp_dec rfl dX1_lose_26 rfl).trans (amS4 (Nat.le_of_ble_eq_true rfl) (Nat.le_of_ble_eq_true rfl) (Nat.le_of_ble_eq_true rfl) (Nat.le_of_ble_eq_true rfl))
theorem wX1_lose_29 {ret F n h} {v0 v1 v2 st} : eX1_lose ret F (n + 1) 29 [v0, v1, v2] (st) h 0 0 = (amIsR v0 ∧ eX1_lose ret F n 30 [v0, v1, v2] (v0 :: st) h 0 0) := (amWp_dec rfl dX1_lose_29 rfl).trans rfl
theorem wX1_lose_30 {ret F n h} {v0 v1 v2 a} : eX1_lose ret F (n + 1) 30 [v0, v1, v2] (.ref a :: []) h 0 0 = (h.1 a = (0, 1) ∧ eX1_lose ret F n 33 [v0, v1, v2] (va_rf (h.2.2.2.1 a 1) :: []) h 0 0) := (amWp_dec rfl dX1_lose_30 rfl).trans (amS4 (Nat.le_of_ble_eq_true rfl) (Nat.le_of_ble_eq_true rfl) (Nat.le_of_ble_eq_true rfl) (Nat.le_of_ble_eq_true rfl))
theorem wX1_lose_33 {ret F n h} {v0 v2 st x} : eX1_lose ret F (n + 1) 33 [v0, .int x, v2] (st) h 0 0 = (eX1_lose ret F n 34 [v0, .int x, v2] (.int x :: st) h 0 0) := (amWp_dec rfl dX1_lose_33 rfl).trans rfl
theorem wX1_lose_34 {ret F n h} {v0 v1 v2 st} : eX1_lose ret F (n + 1) 34 [v0, v1, v2] (st) h 0 0 = (eX1_lose ret F n 35 [v0, v1, v2] (.int (nI 1) :: st) h 0 0) := (amWp_dec rfl dX1_lose_34 rfl).trans rfl
theorem wX1_lose_35 {ret F n h} {v0 v1 v2 st y x} : eX1_lose ret F (n + 1) 35 [v0, v1, v2] (.int y :: .int x :: st) h 0 0 = (eX1_lose ret F n 36 [v0, v1, v2] (.int (x + y) :: st) h 0 0) := (amWp_dec rfl dX1_lose_35 rfl).trans rfl
theorem wX1_lose_36 {ret F n h} {v0 v1 v2 st} : eX1_lose ret F (n + 1) 36 [v0, v1, v2] (st) h 0 0 = (amIsR v0 ∧ eX1_lose ret F n 37 [v0, v1, v2] (v0 :: st) h 0 0) := (amWp_dec rfl dX1_lose_36 rfl).trans rfl
theorem wX1_lose_37 {ret F n h} {v0 v1 v2 r0 r1 a} : eX1_lose ret F (n + 1) 37 [v0, v1, v2] (.ref a :: r0 :: r1 :: []) h 0 0 = (h.1 a = (0, 1) ∧ eX1_lose ret F n 40 [v0, v1, v2] (va_rf (h.2.2.2.1 a 1) :: r0 :: r1 :: []) h 0 0) := (amWp_dec rfl dX1_lose_37 rfl).trans (amS4 (Nat.le_of_ble_eq_true rfl) (Nat.le_of_ble_eq_true rfl) (Nat.le_of_ble_eq_true rfl) (Nat.le_of_ble_eq_true rfl))
theorem wX1_lose_40 {ret F n h} {v0 v2 st x} : eX1_lose ret F (n + 1) 40 [v0, .int x, v2] (st) h 0 0 = (eX1_lose ret F n 41 [v0, .int x, v2] (.int x :: st) h 0 0) := (amWp_dec rfl dX1_lose_40 rfl).trans rfl
theorem wX1_lose_41 {ret F n h} {v0 v1 v2 st} : eX1_lose ret F (n + 1) 41 [v0, v1, v2] (st) h 0 0 = (amIsR v0 ∧ eX1_lose ret F n 42 [v0, v1, v2] (v0 :: st) h 0 0) := (amWp_dec rfl dX1_lose_41 rfl).trans rfl
theorem wX1_lose_42 {ret F n h} {v0 v1 v2 x0 r0 r1 r2 r3} : eX1_lose ret F (n + 1) 42 [v0, v1, v2] (.ref x0 :: r0 :: r1 :: r2 :: r3 :: []) h 0 0 = (h.1 x0 = (0, 1) ∧ tX1_many [.ref x0] h (fun v h => eX1_lose ret F n 45 [v0, v1, v2] (v.toList ++ (r0 :: r1 :: r2 :: r3 :: [])) h 0 0)) := (amWp_dec rfl dX1_lose_42 rfl).trans (amS4 (Nat.le_of_ble_eq_true rfl) (Nat.le_of_ble_eq_true rfl) (Nat.le_of_ble_eq_true rfl) (Nat.le_of_ble_eq_true rfl))
theorem wX1_lose_45 {ret F n h} {v0 v2 st x} : eX1_lose ret F (n + 1) 45 [v0, .int x, v2] (st) h 0 0 = (eX1_lose ret F n 46 [v0, .int x, v2] (.int x :: st) h 0 0) := (amWp_dec rfl dX1_lose_45 rfl).trans rfl
theorem wX1_lose_46 {ret F n h} {v0 v1 v2 st y x} : eX1_lose ret F (n + 1) 46 [v0, v1, v2] (.int y :: .int x :: st) h 0 0 = (eX1_lose ret F n 47 [v0, v1, v2] (.int (x - y) :: st) h 0 0) := (amWp_dec rfl dX1_lose_46 rfl).trans rfl
theorem wX1_lose_47 {ret F n h} {v0 v1 v2 x4 x3 x2 x1 x0} : eX1_lose ret F (n + 1) 47 [v0, v1, v2] (.int x4 :: .int x3 :: .ref x2 :: .int x1 :: .ref x0 :: []) h 0 0 = (amTcpI [.ref x0, .int x1, .ref x2, .int x3, .int x4] h (fun v h => eX1_lose ret F n 50 [v0, v1, v2] (v.toList ++ ([])) h 0 0)) := (amWp_dec rfl dX1_lose_47 rfl).trans (amS4 (Nat.le_of_ble_eq_true rfl) (Nat.le_of_ble_eq_true rfl) (Nat.le_of_ble_eq_true rfl) (Nat.le_of_ble_eq_true rfl))
theorem wX1_lose_50 {ret F n h} {v0 v1 v2 st} : eX1_lose ret F (n + 1) 50 [v0, v1, v2] (st) h 0 0 = (eX1_lose ret F n 51 [v0, v1, v2] (.int (nI 0) :: st) h 0 0) := (amWp_dec rfl dX1_lose_50 rfl).trans rfl
theorem wX1_lose_51 {ret F n h} {v0 v1 v2 st x} : eX1_lose ret F (n + 1) 51 [v0, v1, v2] (.int x :: st) h 0 0 = (eX1_lose ret F n 52 [v0, amClr v1, .int x] (st) h 0 0) := (amWp_dec rfl dX1_lose_51 rfl).trans (amTrue (Nat.le_of_ble_eq_true rfl))
theorem wX1_lose_52 {ret F n ls st h k z} : eX1_lose ret F (n + 1) 52 ls st h k z = F 52 ls st h k z := amWp_cut rfl
theorem uX1_lose_52 {ret F n h} {v0 v1 st x} : sX1_lose ret F n 52 [v0, v1, .int x] (st) h 0 0 = (eX1_lose ret F n 53 [v0, v1, .int x] (.int x :: st) h 0 0) := (amWs_dec dX1_lose_52 rfl).trans rfl
theorem wX1_lose_53 {ret F n h} {v0 v1 v2 st} : eX1_lose ret F (n + 1) 53 [v0, v1, v2] (st) h 0 0 = (amIsR v0 ∧ eX1_lose ret F n 54 [v0, v1, v2] (v0 :: st) h 0 0) := (amWp_dec rfl dX1_lose_53 rfl).trans rfl
theorem wX1_lose_54 {ret F n h} {v0 v1 v2 x0 r0} : eX1_lose ret F (n + 1) 54 [v0, v1, v2] (.ref x0 :: r0 :: []) h 0 0 = (h.1 x0 = (0, 1) ∧ tX1_many [.ref x0] h (fun v h => eX1_lose ret F n 57 [v0, v1, v2] (v.toList ++ (r0 :: [])) h 0 0)) := (amWp_dec rfl dX1_lose_54 rfl).trans (amS4 (Nat.le_of_ble_eq_true rfl) (Nat.le_of_ble_eq_true rfl) (Nat.le_of_ble_eq_true rfl) (Nat.le_of_ble_eq_true rfl))
theorem wX1_lose_57 {ret F n h} {v0 v1 v2 st y x} : eX1_lose ret F (n + 1) 57 [v0, v1, v2] (.int y :: .int x :: st) h 0 0 = ((y ≤ x → eX1_lose ret F n 99 [v0, v1, v2] (st) h 0 0) ∧ (¬ y ≤ x → eX1_lose ret F n 60 [v0, v1, v2] (st) h 0 0)) := (amWp_dec rfl dX1_lose_57 rfl).trans rfl
theorem wX1_lose_60 {ret F n h} {v0 v1 v2 st} : eX1_lose ret F (n + 1) 60 [v0, v1, v2] (st) h 0 0 = (amIsR v0 ∧ eX1_lose ret F n 61 [v0, v1, v2] (v0 :: st) h 0 0) := (amWp_dec rfl dX1_lose_60 rfl).trans rfl
theorem wX1_lose_61 {ret F n h} {v0 v1 v2 a} : eX1_lose ret F (n + 1) 61 [v0, v1, v2] (.ref a :: []) h 0 0 = (h.1 a = (0, 1) ∧ eX1_lose ret F n 64 [v0, v1, v2] (va_rf (h.2.2.2.1 a 1) :: []) h 0 0) := (amWp_dec rfl dX1_lose_61 rfl).trans (amS4 (Nat.le_of_ble_eq_true rfl) (Nat.le_of_ble_eq_true rfl) (Nat.le_of_ble_eq_true rfl) (Nat.le_of_ble_eq_true rfl))
theorem wX1_lose_64 {ret F n h} {v0 v1 st x} : eX1_lose ret F (n + 1) 64 [v0, v1, .int x] (st) h 0 0 = (eX1_lose ret F n 65 [v0, v1, .int x] (.int x :: st) h 0 0) := (amWp_dec rfl dX1_lose_64 rfl).trans rfl
theorem wX1_lose_65 {ret F n h} {v0 v1 v2 st} : eX1_lose ret F (n + 1) 65 [v0, v1, v2] (st) h 0 0 = (amIsR v0 ∧ eX1_lose ret F n 66 [v0, v1, v2] (v0 :: st) h 0 0) := (amWp_dec rfl dX1_lose_65 rfl).trans rfl
theorem wX1_lose_66 {ret F n h} {v0 v1 v2 r0 r1 a} : eX1_lose ret F (n + 1) 66 [v0, v1, v2] (.ref a :: r0 :: r1 :: []) h 0 0 = (h.1 a = (0, 1) ∧ eX1_lose ret F n 69 [v0, v1, v2] (va_rf (h.2.2.2.1 a 1) :: r0 :: r1 :: []) h 0 0) := (amWp_dec rfl dX1_lose_66 rfl).trans (amS4 (Nat.le_of_ble_eq_true rfl) (Nat.le_of_ble_eq_true rfl) (Nat.le_of_ble_eq_true rfl) (Nat.le_of_ble_eq_true rfl))
theorem wX1_lose_69 {ret F n h} {v0 v1 st x} : eX1_lose ret F (n + 1) 69 [v0, v1, .int x] (st) h 0 0 = (eX1_lose ret F n 70 [v0, v1, .int x] (.int x :: st) h 0 0) := (amWp_dec rfl dX1_lose_69 rfl).trans rfl
theorem wX1_lose_70 {ret F n h} {v0 v1 v2 st x a} : eX1_lose ret F (n + 1) 70 [v0, v1, v2] (.int x :: .ref a :: st) h 0 0 = ((h.1 a).1 = 2 ∧ vp_in x (h.1 a).2 ∧ eX1_lose ret F n 71 [v0, v1, v2] (.int (h.2.1 a x.toNatClampNeg) :: st) h 0 0) := (amWp_dec rfl dX1_lose_70 rfl).trans rfl
theorem wX1_lose_71 {ret F n h} {v0 v1 v2 st} : eX1_lose ret F (n + 1) 71 [v0, v1, v2] (st) h 0 0 = (eX1_lose ret F n 72 [v0, v1, v2] (.int (nI 1) :: st) h 0 0) := (amWp_dec rfl dX1_lose_71 rfl).trans rfl
theorem wX1_lose_72 {ret F n h} {v0 v2 st x} : eX1_lose ret F (n + 1) 72 [v0, .int x, v2] (st) h 0 0 = (eX1_lose ret F n 73 [v0, .int x, v2] (.int x :: st) h 0 0) := (amWp_dec rfl dX1_lose_72 rfl).trans rfl
theorem wX1_lose_73 {ret F n h} {v0 v1 v2 st y x} : eX1_lose ret F (n + 1) 73 [v0, v1, v2] (.int y :: .int x :: st) h 0 0 = (eX1_lose ret F n 74 [v0, v1, v2] (.int (x <<< (y &&& 31)) :: st) h 0 0) := (amWp_dec rfl dX1_lose_73 rfl).trans rfl
theorem wX1_lose_74 {ret F n h} {v0 v1 v2 st} : eX1_lose ret F (n + 1) 74 [v0, v1, v2] (st) h 0 0 = (eX1_lose ret F n 75 [v0, v1, v2] (.int (nI 1) :: st) h 0 0) := (amWp_dec rfl dX1_lose_74 rfl).trans rfl
theorem wX1_lose_75 {ret F n h} {v0 v1 v2 st y x} : eX1_lose ret F (n + 1) 75 [v0, v1, v2] (.int y :: .int x :: st) h 0 0 = (eX1_lose ret F n 76 [v0, v1, v2] (.int (x - y) :: st) h 0 0) := (amWp_dec rfl dX1_lose_75 rfl).trans rfl
theorem wX1_lose_76 {ret F n h} {v0 v1 v2 st y x} : eX1_lose ret F (n + 1) 76 [v0, v1, v2] (.int y :: .int x :: st) h 0 0 = (eX1_lose ret F n 77 [v0, v1, v2] (.int (x &&& y) :: st) h 0 0) := (amWp_dec rfl dX1_lose_76 rfl).trans rfl
theorem wX1_lose_77 {ret F n h} {v0 v1 v2 st} : eX1_lose ret F (n + 1) 77 [v0, v1, v2] (st) h 0 0 = (amIsR v0 ∧ eX1_lose ret F n 78 [v0, v1, v2] (v0 :: st) h 0 0) := (amWp_dec rfl dX1_lose_77 rfl).trans rfl
theorem wX1_lose_78 {ret F n h} {v0 v1 v2 r0 r1 r2 a} : eX1_lose ret F (n + 1) 78 [v0, v1, v2] (.ref a :: r0 :: r1 :: r2 :: []) h 0 0 = (h.1 a = (0, 1) ∧ eX1_lose ret F n 81 [v0, v1, v2] (va_rf (h.2.2.2.1 a 1) :: r0 :: r1 :: r2 :: []) h 0 0) := (amWp_dec rfl dX1_lose_78 rfl).trans (amS4 (Nat.le_of_ble_eq_true rfl) (Nat.le_of_ble_eq_true rfl) (Nat.le_of_ble_eq_true rfl) (Nat.le_of_ble_eq_true rfl))
theorem wX1_lose_81 {ret F n h} {v0 v1 st x} : eX1_lose ret F (n + 1) 81 [v0, v1, .int x] (st) h 0 0 = (eX1_lose ret F n 82 [v0, v1, .int x] (.int x :: st) h 0 0) := (amWp_dec rfl dX1_lose_81 rfl).trans rfl
theorem wX1_lose_82 {ret F n h} {v0 v1 v2 st x a} : eX1_lose ret F (n + 1) 82 [v0, v1, v2] (.int x :: .ref a :: st) h 0 0 = ((h.1 a).1 = 2 ∧ vp_in x (h.1 a).2 ∧ eX1_lose ret F n 83 [v0, v1, v2] (.int (h.2.1 a x.toNatClampNeg) :: st) h 0 0) := (amWp_dec rfl dX1_lose_82 rfl).trans rfl
theorem wX1_lose_83 {ret F n h} {v0 v1 v2 st} : eX1_lose ret F (n + 1) 83 [v0, v1, v2] (st) h 0 0 = (eX1_lose ret F n 84 [v0, v1, v2] (.int (nI 1) :: st) h 0 0) := (amWp_dec rfl dX1_lose_83 rfl).trans rfl
theorem wX1_lose_84 {ret F n h} {v0 v1 v2 st y x} : eX1_lose ret F (n + 1) 84 [v0, v1, v2] (.int y :: .int x :: st) h 0 0 = (eX1_lose ret F n 85 [v0, v1, v2] (.int (x >>> (y &&& 31)) :: st) h 0 0) := (amWp_dec rfl dX1_lose_84 rfl).trans rfl
theorem wX1_lose_85 {ret F n h} {v0 v1 v2 st} : eX1_lose ret F (n + 1) 85 [v0, v1, v2] (st) h 0 0 = (eX1_lose ret F n 86 [v0, v1, v2] (.int (nI 1) :: st) h 0 0) := (amWp_dec rfl dX1_lose_85 rfl).trans rfl
theorem wX1_lose_86 {ret F n h} {v0 v2 st x} : eX1_lose ret F (n + 1) 86 [v0, .int x, v2] (st) h 0 0 = (eX1_lose ret F n 87 [v0, .int x, v2] (.int x :: st) h 0 0) := (amWp_dec rfl dX1_lose_86 rfl).trans rfl
theorem wX1_lose_87 {ret F n h} {v0 v1 v2 st y x} : eX1_lose ret F (n + 1) 87 [v0, v1, v2] (.int y :: .int x :: st) h 0 0 = (eX1_lose ret F n 88 [v0, v1, v2] (.int (x <<< (y &&& 31)) :: st) h 0 0) := (amWp_dec rfl dX1_lose_87 rfl).trans rfl
theorem wX1_lose_88 {ret F n h} {v0 v1 v2 st x} : eX1_lose ret F (n + 1) 88 [v0, v1, v2] (.int x :: st) h 0 0 = (eX1_lose ret F n 89 [v0, v1, v2] (.int (-x) :: st) h 0 0) := (amWp_dec rfl dX1_lose_88 rfl).trans rfl
theorem wX1_lose_89 {ret F n h} {v0 v1 v2 st y x} : eX1_lose ret F (n + 1) 89 [v0, v1, v2] (.int y :: .int x :: st) h 0 0 = (eX1_lose ret F n 90 [v0, v1, v2] (.int (x &&& y) :: st) h 0 0) := (amWp_dec rfl dX1_lose_89 rfl).trans rfl
theorem wX1_lose_90 {ret F n h} {v0 v1 v2 st y x} : eX1_lose ret F (n + 1) 90 [v0, v1, v2] (.int y :: .int x :: st) h 0 0 = (eX1_lose ret F n 91 [v0, v1, v2] (.int (x ||| y) :: st) h 0 0) := (amWp_dec rfl dX1_lose_90 rfl).trans rfl
theorem wX1_lose_91 {ret F n h} {v0 v1 v2 st x} : eX1_lose ret F (n + 1) 91 [v0, v1, v2] (.int x :: st) h 0 0 = (eX1_lose ret F n 92 [v0, v1, v2] (.int x.toInt8.toInt32 :: st) h 0 0) := (amWp_dec rfl dX1_lose_91 rfl).trans rfl
theorem wX1_lose_92 {ret F n h} {v0 v1 v2 st y x a} : eX1_lose ret F (n + 1) 92 [v0, v1, v2] (.int y :: .int x :: .ref a :: st) h 0 0 = ((h.1 a).1 = 2 ∧ vp_in x (h.1 a).2 ∧ amN0 ≤ a ∧ eX1_lose ret F n 93 [v0, v1, v2] (st) (amSI h (amU h.2.1 a x.toNatClampNeg (vp_nar .byte y))) 0 0) := (amWp_dec rfl dX1_lose_92 rfl).trans rfl
theorem wX1_lose_93 {ret F n h} {v0 v1 st x} : eX1_lose ret F (n + 1) 93 [v0, v1, .int x] (st) h 0 0 = (eX1_lose ret F n 96 [v0, amClr v1, .int (x + nI 1)] (st) h 0 0) := (amWp_dec rfl dX1_lose_93 rfl).trans rfl
theorem wX1_lose_96 {ret F n h} {v0 v1 v2 st} : eX1_lose ret F (n + 1) 96 [v0, v1, v2] (st) h 0 0 = (eX1_lose ret F n 52 [v0, v1, v2] (st) h 0 0) := (amWp_dec rfl dX1_lose_96 rfl).trans rfl
theorem wX1_lose_99 {ret F n h} {v0 v1 v2} : eX1_lose ret F (n + 1) 99 [v0, v1, v2] ([]) h 0 0 = (ret none h 0 0) := (amWp_dec rfl dX1_lose_99 rfl).trans (amTrue rfl)
theorem evX1_lose (l : Launch) (G : amG) : ∀ pc S i sz, amLk rX1_lose pc = some S → decode cX1_lose pc = .ok (i, sz) → amSiteP pc G l yX1_lose.cls yX1_lose.name yX1_lose.desc (amRm 4 0 0) i sz S.1 S.2.1 S.2.2.1 S.2.2.2 := amLk_ok (by
  refine List.forall_mem_cons.mpr ⟨⟨_, _, dX1_lose_1, amSite.P (amSiteGet ⟨_, rfl, by decide, Or.inl q150⟩)⟩, ?_⟩
  refine List.forall_mem_cons.mpr ⟨⟨_, _, dX1_lose_5, amSite.P (amSiteV (C := RX2) (metX2_lose l G) rfl (by decide) (by decide) (lw_V q909 q910 q911 q88 q912) ⟨_, rfl, rfl⟩ ⟨rfl, by decide +kernel, by decide +kernel, by decide +kernel⟩)⟩, ?_⟩
  refine List.forall_mem_cons.mpr ⟨⟨_, _, dX1_lose_9, amSite.P (amSiteGet ⟨_, rfl, by decide, Or.inl q146⟩)⟩, ?_⟩
  refine List.forall_mem_cons.mpr ⟨⟨_, _, dX1_lose_16, amSite.P (amSiteGet ⟨_, rfl, by decide, Or.inl q146⟩)⟩, ?_⟩
  refine List.forall_mem_cons.mpr ⟨⟨_, _, dX1_lose_21, amSite.P (amSiteV (C := RX1) (metX1_many l G) rfl (by decide) (by decide) (lw_V q506 q479 q480 q87 q481) ⟨_, rfl, rfl⟩ ⟨rfl, by decide +kernel, by decide +kernel, by decide +kernel⟩)⟩, ?_⟩
  refine List.forall_mem_cons.mpr ⟨⟨_, _, dX1_lose_26, amSite.P (amSiteCpI rfl (by decide) q890 q473 q472 q95)⟩, ?_⟩
  refine List.forall_mem_cons.mpr ⟨⟨_, _, dX1_lose_30, amSite.P (amSiteGet ⟨_, rfl, by decide, Or.inl q148⟩)⟩, ?_⟩
  refine List.forall_mem_cons.mpr ⟨⟨_, _, dX1_lose_37, amSite.P (amSiteGet ⟨_, rfl, by decide, Or.inl q148⟩)⟩, ?_⟩
  refine List.forall_mem_cons.mpr ⟨⟨_, _, dX1_lose_42, amSite.P (amSiteV (C := RX1) (metX1_many l G) rfl (by decide) (by decide) (lw_V q506 q479 q480 q87 q481) ⟨_, rfl, rfl⟩ ⟨rfl, by decide +kernel, by decide +kernel, by decide +kernel⟩)⟩, ?_⟩
  refine List.forall_mem_cons.mpr ⟨⟨_, _, dX1_lose_47, amSite.P (amSiteCpI rfl (by decide) q890 q473 q472 q95)⟩, ?_⟩
  refine List.forall_mem_cons.mpr ⟨⟨_, _, dX1_lose_54, amSite.P (amSiteV (C := RX1) (metX1_many l G) rfl (by decide) (by decide) (lw_V q506 q479 q480 q87 q481) ⟨_, rfl, rfl⟩ ⟨rfl, by decide +kernel, by decide +kernel, by decide +kernel⟩)⟩, ?_⟩
  refine List.forall_mem_cons.mpr ⟨⟨_, _, dX1_lose_61, amSite.P (amSiteGet ⟨_, rfl, by decide, Or.inl q148⟩)⟩, ?_⟩
  refine List.forall_mem_cons.mpr ⟨⟨_, _, dX1_lose_66, amSite.P (amSiteGet ⟨_, rfl, by decide, Or.inl q148⟩)⟩, ?_⟩
  refine List.forall_mem_cons.mpr ⟨⟨_, _, dX1_lose_78, amSite.P (amSiteGet ⟨_, rfl, by decide, Or.inl q148⟩)⟩, ?_⟩
  exact fun _ h => absurd h List.not_mem_nil)
theorem goX1_lose {ret F} (hF : amCld cX1_lose kX1_lose (amLk rX1_lose) none 0 0 ret F) (n : Nat) {pc ls st h k z} (q : sX1_lose ret F n pc ls st h k z) : F pc ls st h k z := hF.1 n pc ls st h k z q
theorem metX1_lose (l : Launch) (G : amG) : amMet l G yX1_lose (ws_ yX1_lose cX1_lose 3 none) 4 0 0 tX1_lose := by
  refine amMet_of (cut := kX1_lose) (by decide +kernel) (evX1_lose l G) ?_
  intro as h K hT
  match as, hT with
  | [.ref a, .int x0], ⟨S, k, e0, hA, hN, hS, hd, hm, hk, hK⟩ =>
  refine ⟨Nat.le_of_ble_eq_true rfl, fun F hF => ?_⟩
  show F 0 [.ref a, .int x0, .retAddr 0] [] h 0 0
  obtain ⟨a, rfl⟩ : ∃ i : Nat, i = a := ⟨_, rfl⟩
  subst e0
  obtain ⟨h1, h2, h3, h4, h5, h6, h7⟩ := hA
  have hn := hS.n7
  have la := hS.la
  have ls := hS.ls
  have n2 : amN0 ≤ a + 2 := by omega
  have n1 : amN0 ≤ a + 1 := by omega
  have n3 : amN0 ≤ a + 3 := by omega
  have hix := List.idxOf_lt_length_of_mem hm
  have lo : (S.lose k).ord.length = S.ord.length - 1 := by
    show (lessL k (S.ord.eraseIdx (S.ord.idxOf k))).length = _
    rw [lessL_len, List.length_eraseIdx_of_lt hix]
  have lE : (S.ahead.eraseIdx k).length = S.ord.length - 1 := by rw [List.length_eraseIdx_of_lt (by rw [la]; exact hk), la]
  have bE : ∀ x ∈ S.ahead.eraseIdx k, x < 128 := fun x hx => hS.ba x (List.mem_of_mem_eraseIdx hx)
  have loop : ∀ t p m, p + t = S.ord.length - 1 → bdIs m (a + 3) (S.lose k).ord → (∀ j, j < S.ord.length - 1 → m (a + 1) j = nI ((S.sets.eraseIdx k).getD j 0)) → (∀ j, j < S.ord.length - 1 → m (a + 2) j = nI (if j < p then outN k ((S.ahead.eraseIdx k).getD j 0) else (S.ahead.eraseIdx k).getD j 0)) → m a = h.2.1 a → hsFr h.2.1 m a → F 52 [.ref a, .int (nI k), .int (nI p)] [] (amSI h m) 0 0 := by
    intro t
    induction t with
    | zero =>
      intro p m e1 i1 i2 i3 i4 i5
      have q : (S.ord.length - 1 ≤ p) = True := eq_true (by omega)
      have hm := i1.2.2.1
      rw [lo] at hm
      refine goX1_lose hF 60 ?_
      simp (disch := omega) only [wX1_lose_0, uX1_lose_0, wX1_lose_1, wX1_lose_4, wX1_lose_5, wX1_lose_8, uX1_lose_8, wX1_lose_9, wX1_lose_12, wX1_lose_13, wX1_lose_14, wX1_lose_15, wX1_lose_16, wX1_lose_19, wX1_lose_20, wX1_lose_21, wX1_lose_24, wX1_lose_25, wX1_lose_26, wX1_lose_29, wX1_lose_30, wX1_lose_33, wX1_lose_34, wX1_lose_35, wX1_lose_36, wX1_lose_37, wX1_lose_40, wX1_lose_41, wX1_lose_42, wX1_lose_45, wX1_lose_46, wX1_lose_47, wX1_lose_50, wX1_lose_51, wX1_lose_52, uX1_lose_52, wX1_lose_53, wX1_lose_54, wX1_lose_57, wX1_lose_60, wX1_lose_61, wX1_lose_64, wX1_lose_65, wX1_lose_66, wX1_lose_69, wX1_lose_70, wX1_lose_71, wX1_lose_72, wX1_lose_73, wX1_lose_74, wX1_lose_75, wX1_lose_76, wX1_lose_77, wX1_lose_78, wX1_lose_81, wX1_lose_82, wX1_lose_83, wX1_lose_84, wX1_lose_85, wX1_lose_86, wX1_lose_87, wX1_lose_88, wX1_lose_89, wX1_lose_90, wX1_lose_91, wX1_lose_92, wX1_lose_93, wX1_lose_96, wX1_lose_99, amSI_1, amSI_2, amSI_3, amSI_s, amU_at, amIsR_ref, amIsR_null, amIsR_rf, amRf_some, amRf_none, amClr_int, amClr_ref, amClr_null, amClr_long, amClr_ra, amClr_rf, amFit_int, amFit_oref, amFit_aref, amFit_onull, amFit_anull, amOptSome, amOptNone, List.cons_append, List.nil_append, true_and, and_true, true_implies, not_true_eq_false, not_false_eq_true, false_implies, and_self, Nat.add_zero, Nat.zero_add, ne_eq, Prod.mk.injEq, amC01_0, amC01_1, amC01_nb, amNb0, amNb1, amTcpI_d, Nat.reduceLeDiff, Nat.reduceAdd, Nat.reduceSub, Nat.reduceEqDiff, Nat.le_refl, amN0le, h1, h2, h3, h4, h5, h6, tX1_many_d, h7.1, hm, amLeI, q]
      refine amRet.of (by decide) (by decide) (hK _ (HsIs.mk i1 ?_ ?_ ?_ ?_ ?_ ?_ ?_ ?_ ?_ ?_) i5)
      · rw [lo]
        show (S.sets.eraseIdx k).length = _
        rw [List.length_eraseIdx_of_lt (by rw [ls]; exact hk), ls]
      · rw [lo]
        show ((S.ahead.eraseIdx k).map (outN k)).length = _
        rw [List.length_map, lE]
      · intro j hj
        rw [lo] at hj
        exact i2 j hj
      · intro j hj
        rw [lo] at hj
        rw [i3 j hj, if_pos (by omega)]
        show _ = nI (((S.ahead.eraseIdx k).map (outN k)).getD j 0)
        rw [map_getD (by omega)]
      · rw [i4]; exact hS.prior
      · rw [i4]; exact hS.span
      · rw [i4]; exact hS.bound
      · rw [i4]; exact hS.rule
      · rw [i4]; exact hS.draw
      · intro x hx
        obtain ⟨y, hy, rfl⟩ := List.mem_map.mp hx
        exact Nat.lt_of_lt_of_le (outN_lt k (by omega) y (bE y hy)) (by decide)
    | succ t ih =>
      intro p m e1 i1 i2 i3 i4 i5
      have q : (S.ord.length - 1 ≤ p) = False := eq_false (by omega)
      have hm := i1.2.2.1
      rw [lo] at hm
      have ap := i3 p (by omega)
      rw [if_neg (by omega)] at ap
      have al := bE _ (getD_mem (p := p) (by omega))
      have nx : F 52 [.ref a, .int (nI k), .int (nI (p + 1))] [] (amSI h (amU m (a + 2) p (nI (outN k ((S.ahead.eraseIdx k).getD p 0))))) 0 0 := by
        refine ih (p + 1) _ (by omega) (i1.kept (by funext j; simp (disch := omega) only [amU_at, amU_ne, amU_nj, amU_neR, up_ne, up_at, amSI_2]) (by funext j; simp (disch := omega) only [amU_at, amU_ne, amU_nj, amU_neR, up_ne, up_at, amSI_2])) (fun j hj => ?_) (fun j hj => ?_) ?_ ?_
        · simp (disch := omega) only [amU_at, amU_ne, amU_nj, amU_neR, up_ne, up_at, amSI_2]
          exact i2 j hj
        · by_cases e : j = p
          · subst e
            rw [amU_at, if_pos (by omega)]
          · rw [amU_nj e, i3 j hj]
            by_cases r : j < p
            · rw [if_pos r, if_pos (by omega)]
            · rw [if_neg r, if_neg (by omega)]
        · rw [← i4]; simp (disch := omega) only [amU_at, amU_ne, amU_nj, amU_neR, up_ne, up_at, amSI_2]
        · intro i hi
          rw [← i5 i hi]
          simp (disch := omega) only [amU_at, amU_ne, amU_nj, amU_neR, up_ne, up_at, amSI_2]
      refine goX1_lose hF 60 ?_
      simp (disch := omega) only [wX1_lose_0, uX1_lose_0, wX1_lose_1, wX1_lose_4, wX1_lose_5, wX1_lose_8, uX1_lose_8, wX1_lose_9, wX1_lose_12, wX1_lose_13, wX1_lose_14, wX1_lose_15, wX1_lose_16, wX1_lose_19, wX1_lose_20, wX1_lose_21, wX1_lose_24, wX1_lose_25, wX1_lose_26, wX1_lose_29, wX1_lose_30, wX1_lose_33, wX1_lose_34, wX1_lose_35, wX1_lose_36, wX1_lose_37, wX1_lose_40, wX1_lose_41, wX1_lose_42, wX1_lose_45, wX1_lose_46, wX1_lose_47, wX1_lose_50, wX1_lose_51, wX1_lose_52, uX1_lose_52, wX1_lose_53, wX1_lose_54, wX1_lose_57, wX1_lose_60, wX1_lose_61, wX1_lose_64, wX1_lose_65, wX1_lose_66, wX1_lose_69, wX1_lose_70, wX1_lose_71, wX1_lose_72, wX1_lose_73, wX1_lose_74, wX1_lose_75, wX1_lose_76, wX1_lose_77, wX1_lose_78, wX1_lose_81, wX1_lose_82, wX1_lose_83, wX1_lose_84, wX1_lose_85, wX1_lose_86, wX1_lose_87, wX1_lose_88, wX1_lose_89, wX1_lose_90, wX1_lose_91, wX1_lose_92, wX1_lose_93, wX1_lose_96, wX1_lose_99, amSI_1, amSI_2, amSI_3, amSI_s, amU_at, amIsR_ref, amIsR_null, amIsR_rf, amRf_some, amRf_none, amClr_int, amClr_ref, amClr_null, amClr_long, amClr_ra, amClr_rf, amFit_int, amFit_oref, amFit_aref, amFit_onull, amFit_anull, amOptSome, amOptNone, List.cons_append, List.nil_append, true_and, and_true, true_implies, not_true_eq_false, not_false_eq_true, false_implies, and_self, Nat.add_zero, Nat.zero_add, ne_eq, Prod.mk.injEq, amC01_0, amC01_1, amC01_nb, amNb0, amNb1, amTcpI_d, Nat.reduceLeDiff, Nat.reduceAdd, Nat.reduceSub, Nat.reduceEqDiff, Nat.le_refl, amN0le, h1, h2, h3, h4, h5, h6, n2, tX1_many_d, h7.1, hm, amLeI, q, amVI, amCl_nI, ap, amAdd]
      rw [outB k (by omega) _ al, amByteN _ (Nat.lt_of_lt_of_le (outN_lt k (by omega) _ al) (by decide))]
      exact nx
  refine goX1_lose hF 60 ?_
  simp (disch := omega) only [wX1_lose_0, uX1_lose_0, wX1_lose_1, wX1_lose_4, wX1_lose_5, wX1_lose_8, uX1_lose_8, wX1_lose_9, wX1_lose_12, wX1_lose_13, wX1_lose_14, wX1_lose_15, wX1_lose_16, wX1_lose_19, wX1_lose_20, wX1_lose_21, wX1_lose_24, wX1_lose_25, wX1_lose_26, wX1_lose_29, wX1_lose_30, wX1_lose_33, wX1_lose_34, wX1_lose_35, wX1_lose_36, wX1_lose_37, wX1_lose_40, wX1_lose_41, wX1_lose_42, wX1_lose_45, wX1_lose_46, wX1_lose_47, wX1_lose_50, wX1_lose_51, wX1_lose_52, uX1_lose_52, wX1_lose_53, wX1_lose_54, wX1_lose_57, wX1_lose_60, wX1_lose_61, wX1_lose_64, wX1_lose_65, wX1_lose_66, wX1_lose_69, wX1_lose_70, wX1_lose_71, wX1_lose_72, wX1_lose_73, wX1_lose_74, wX1_lose_75, wX1_lose_76, wX1_lose_77, wX1_lose_78, wX1_lose_81, wX1_lose_82, wX1_lose_83, wX1_lose_84, wX1_lose_85, wX1_lose_86, wX1_lose_87, wX1_lose_88, wX1_lose_89, wX1_lose_90, wX1_lose_91, wX1_lose_92, wX1_lose_93, wX1_lose_96, wX1_lose_99, amSI_1, amSI_2, amSI_3, amSI_s, amU_at, amIsR_ref, amIsR_null, amIsR_rf, amRf_some, amRf_none, amClr_int, amClr_ref, amClr_null, amClr_long, amClr_ra, amClr_rf, amFit_int, amFit_oref, amFit_aref, amFit_onull, amFit_anull, amOptSome, amOptNone, List.cons_append, List.nil_append, true_and, and_true, true_implies, not_true_eq_false, not_false_eq_true, false_implies, and_self, Nat.add_zero, Nat.zero_add, ne_eq, Prod.mk.injEq, amC01_0, amC01_1, amC01_nb, amNb0, amNb1, amTcpI_d, Nat.reduceLeDiff, Nat.reduceAdd, Nat.reduceSub, Nat.reduceEqDiff, Nat.le_refl, amN0le, h1, h2, h3, h4, h5, h6, h7.1, tX2_lose_d]
  refine ⟨S.ord, k, rfl, h7, n3, hS.ord, hd, hm, fun m' q1 q2 => ?_⟩
  have q1 : bdIs m' (a + 3) (S.lose k).ord := q1
  have hm := q1.2.2.1
  rw [lo] at hm
  have m2 : m' (a + 2) = h.2.1 (a + 2) := q2 _ (by omega)
  have m1 : m' (a + 1) = h.2.1 (a + 1) := q2 _ (by omega)
  have ek : S.ord.length - 1 - k ≤ 7 := by omega
  refine goX1_lose hF 60 ?_
  simp (disch := omega) only [wX1_lose_0, uX1_lose_0, wX1_lose_1, wX1_lose_4, wX1_lose_5, wX1_lose_8, uX1_lose_8, wX1_lose_9, wX1_lose_12, wX1_lose_13, wX1_lose_14, wX1_lose_15, wX1_lose_16, wX1_lose_19, wX1_lose_20, wX1_lose_21, wX1_lose_24, wX1_lose_25, wX1_lose_26, wX1_lose_29, wX1_lose_30, wX1_lose_33, wX1_lose_34, wX1_lose_35, wX1_lose_36, wX1_lose_37, wX1_lose_40, wX1_lose_41, wX1_lose_42, wX1_lose_45, wX1_lose_46, wX1_lose_47, wX1_lose_50, wX1_lose_51, wX1_lose_52, uX1_lose_52, wX1_lose_53, wX1_lose_54, wX1_lose_57, wX1_lose_60, wX1_lose_61, wX1_lose_64, wX1_lose_65, wX1_lose_66, wX1_lose_69, wX1_lose_70, wX1_lose_71, wX1_lose_72, wX1_lose_73, wX1_lose_74, wX1_lose_75, wX1_lose_76, wX1_lose_77, wX1_lose_78, wX1_lose_81, wX1_lose_82, wX1_lose_83, wX1_lose_84, wX1_lose_85, wX1_lose_86, wX1_lose_87, wX1_lose_88, wX1_lose_89, wX1_lose_90, wX1_lose_91, wX1_lose_92, wX1_lose_93, wX1_lose_96, wX1_lose_99, amSI_1, amSI_2, amSI_3, amSI_s, amU_at, amIsR_ref, amIsR_null, amIsR_rf, amRf_some, amRf_none, amClr_int, amClr_ref, amClr_null, amClr_long, amClr_ra, amClr_rf, amFit_int, amFit_oref, amFit_aref, amFit_onull, amFit_anull, amOptSome, amOptNone, List.cons_append, List.nil_append, true_and, and_true, true_implies, not_true_eq_false, not_false_eq_true, false_implies, and_self, Nat.add_zero, Nat.zero_add, ne_eq, Prod.mk.injEq, amC01_0, amC01_1, amC01_nb, amNb0, amNb1, amTcpI_d, Nat.reduceLeDiff, Nat.reduceAdd, Nat.reduceSub, Nat.reduceEqDiff, Nat.le_refl, amN0le, h1, h2, h3, h4, h5, h6, n1, n2, tX1_many_d, h7.1, hm, up_ne, amSub, amAdd, amCl_nI, amNotPosI, amVI]
  refine ⟨by omega, by omega, by omega, by omega, loop (S.ord.length - 1) 0 _ (by omega) (q1.kept (by funext j; simp (disch := omega) only [amU_at, amU_ne, amU_nj, amU_neR, up_ne, up_at, amSI_2]) (by funext j; simp (disch := omega) only [amU_at, amU_ne, amU_nj, amU_neR, up_ne, up_at, amSI_2])) (fun j hj => ?_) (fun j hj => ?_) ?_ ?_⟩
  · simp (disch := omega) only [amU_at, amU_ne, amU_nj, amU_neR, up_ne, up_at, amSI_2, m1]
    rw [era_getD]
    by_cases r : j < k
    · rw [if_pos r, pk_cpy_out (by omega)]
      exact hS.sets j (by omega)
    · rw [if_neg r, pk_cpy_in (by omega) (by omega), hS.sets _ (by omega)]
      congr 2; omega
  · simp (disch := omega) only [amU_at, amU_ne, amU_nj, amU_neR, up_ne, up_at, amSI_2, m2]
    rw [if_neg (by omega), era_getD]
    by_cases r : j < k
    · rw [if_pos r, pk_cpy_out (by omega)]
      exact hS.ahead j (by omega)
    · rw [if_neg r, pk_cpy_in (by omega) (by omega), hS.ahead _ (by omega)]
      congr 2; omega
  · rw [← q2 a (by omega)]
    simp (disch := omega) only [amU_at, amU_ne, amU_nj, amU_neR, up_ne, up_at, amSI_2]
  · intro i hi
    rw [← q2 i (by omega)]
    simp (disch := omega) only [amU_at, amU_ne, amU_nj, amU_neR, up_ne, up_at, amSI_2]
theorem tX1_takeFrom_d {a c : Nat} {h : amH} {K : Option Value → amH → Prop} : tX1_takeFrom [.ref a, .ref c] h K = ∃ S : HS, hsAt h a ∧ hsAt h c ∧ amN0 ≤ a ∧ hsAp a c ∧ HsIs h.2.1 c S ∧ ∀ m', HsIs m' a S → hsFr h.2.1 m' a → K none (amSI h m') := rfl
theorem tX1_add_d {a : Nat} {x : Int32} {h : amH} {K : Option Value → amH → Prop} : tX1_add [.ref a, .int x] h K = ∃ (S : HS) (v : Nat), x = nI v ∧ hsAt h a ∧ amN0 ≤ a ∧ HsIs h.2.1 a S ∧ S.ord.length < 7 ∧ ∀ m', HsIs m' a (S.add v) → hsFr h.2.1 m' a → K none (amSI h m') := rfl
theorem tX1_lose_d {a : Nat} {x0 : Int32} {h : amH} {K : Option Value → amH → Prop} : tX1_lose [.ref a, .int x0] h K = ∃ (S : HS) (k : Nat), x0 = nI k ∧ hsAt h a ∧ amN0 ≤ a ∧ HsIs h.2.1 a S ∧ S.ord.Nodup ∧ k ∈ S.ord ∧ k < S.ord.length ∧ ∀ m', HsIs m' a (S.lose k) → hsFr h.2.1 m' a → K none (amSI h m') := rfl
theorem tX2_put_d {b : Nat} {p0 x0 : Int32} {h : amH} {K : Option Value → amH → Prop} : tX2_put [.ref b, .int p0, .int x0] h K = ∃ (l : List Nat) (p x : Nat), p0 = nI p ∧ x0 = nI x ∧ bdAt h b ∧ amN0 ≤ b ∧ bdIs h.2.1 b l ∧ p ≤ l.length ∧ l.length < 7 ∧ x < 7 ∧ ∀ m', bdIs m' b (l.insertIdx p x) → bdFr h.2.1 m' b → K none (amSI h m') := rfl
theorem tX2_take_d {b : Nat} {p0 : Int32} {h : amH} {K : Option Value → amH → Prop} : tX2_take [.ref b, .int p0] h K = ∃ (l : List Nat) (p : Nat), p0 = nI p ∧ bdAt h b ∧ amN0 ≤ b ∧ bdIs h.2.1 b l ∧ p < l.length ∧ ∀ m', bdIs m' b (l.eraseIdx p) → bdFr h.2.1 m' b → K none (amSI h m') := rfl
