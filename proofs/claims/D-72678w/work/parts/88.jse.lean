/-! the JDK's strings: made of a builder, asked -/
set_option maxRecDepth 100000
def tJ4_getValue : amT := fun as h K => match as with
  | [.ref b] => ∃ v : Nat, h.1 b = (0, 8) ∧ h.2.2.2.1 b 0 = some v ∧ K (some (.ref v)) h
  | _ => False
/-! java/lang/AbstractStringBuilder.getValue()[B -/
def kJ4_getValue : Nat → Bool := fun pc => false
def rJ4_getValue : List (Nat × amS) := [(1, 1, 0, 0, amTget 8 0)]
def eJ4_getValue (ret : Option Value → amH → Nat → Nat → Prop) (F : amX) : Nat → amX := amWp cJ4_getValue kJ4_getValue (amLk rJ4_getValue) (some (FieldType.array FieldType.byte)) 0 0 ret F
def sJ4_getValue (ret : Option Value → amH → Nat → Nat → Prop) (F : amX) : Nat → amX := amWs cJ4_getValue kJ4_getValue (amLk rJ4_getValue) (some (FieldType.array FieldType.byte)) 0 0 ret F
theorem wJ4_getValue_0 {ret F n h} {v0 st} : eJ4_getValue ret F (n + 1) 0 [v0] (st) h 0 0 = (amIsR v0 ∧ eJ4_getValue ret F n 1 [v0] (v0 :: st) h 0 0) := (amWp_dec rfl dJ4_getValue_0 rfl).trans rfl
theorem uJ4_getValue_0 {ret F n h} {v0 st} : sJ4_getValue ret F n 0 [v0] (st) h 0 0 = (amIsR v0 ∧ eJ4_getValue ret F n 1 [v0] (v0 :: st) h 0 0) := (amWs_dec dJ4_getValue_0 rfl).trans rfl
theorem wJ4_getValue_1 {ret F n h} {v0 a} : eJ4_getValue ret F (n + 1) 1 [v0] (.ref a :: []) h 0 0 = (h.1 a = (0, 8) ∧ eJ4_getValue ret F n 4 [v0] (va_rf (h.2.2.2.1 a 0) :: []) h 0 0) := (amWp_dec rfl dJ4_getValue_1 rfl).trans (amS4 (Nat.le_of_ble_eq_true rfl) (Nat.le_of_ble_eq_true rfl) (Nat.le_of_ble_eq_true rfl) (Nat.le_of_ble_eq_true rfl))
theorem wJ4_getValue_4 {ret F n h} {v0 w} : eJ4_getValue ret F (n + 1) 4 [v0] ([w]) h 0 0 = (amIsR w ∧ ret (some w) h 0 0) := (amWp_dec rfl dJ4_getValue_4 rfl).trans (amTrue ⟨_, rfl, rfl⟩)
theorem evJ4_getValue (l : Launch) (G : amG) : ∀ pc S i sz, amLk rJ4_getValue pc = some S → decode cJ4_getValue pc = .ok (i, sz) → amSiteP pc G l yJ4_getValue.cls yJ4_getValue.name yJ4_getValue.desc (amRm 1 0 0) i sz S.1 S.2.1 S.2.2.1 S.2.2.2 := amLk_ok (by
  refine List.forall_mem_cons.mpr ⟨⟨_, _, dJ4_getValue_1, amSite.P (amSiteGet ⟨_, rfl, by decide, Or.inl q623⟩)⟩, ?_⟩
  exact fun _ h => absurd h List.not_mem_nil)
theorem goJ4_getValue {ret F} (hF : amCld cJ4_getValue kJ4_getValue (amLk rJ4_getValue) (some (FieldType.array FieldType.byte)) 0 0 ret F) (n : Nat) {pc ls st h k z} (q : sJ4_getValue ret F n pc ls st h k z) : F pc ls st h k z := hF.1 n pc ls st h k z q
theorem metJ4_getValue (l : Launch) (G : amG) : amMet l G yJ4_getValue (ws_ yJ4_getValue cJ4_getValue 1 (some (FieldType.array FieldType.byte))) 1 0 0 tJ4_getValue := by
  refine amMet_of (cut := kJ4_getValue) (by decide +kernel) (evJ4_getValue l G) ?_
  intro as h K hT
  match as, hT with
  | [.ref b], ⟨v, h1, h2, hK⟩ =>
  refine ⟨Nat.le_of_ble_eq_true rfl, fun F hF => ?_⟩
  show F 0 [.ref b] [] h 0 0
  obtain ⟨b, rfl⟩ : ∃ i : Nat, i = b := ⟨_, rfl⟩
  refine goJ4_getValue hF 20 ?_
  simp (disch := omega) only [wJ4_getValue_0, uJ4_getValue_0, wJ4_getValue_1, wJ4_getValue_4, amSI_1, amSI_2, amSI_3, amSI_s, amU_at, amIsR_ref, amIsR_null, amIsR_rf, amRf_some, amRf_none, amClr_int, amClr_ref, amClr_null, amClr_long, amClr_ra, amClr_rf, amFit_int, amFit_oref, amFit_aref, amFit_onull, amFit_anull, amOptSome, amOptNone, List.cons_append, List.nil_append, true_and, and_true, true_implies, not_true_eq_false, not_false_eq_true, false_implies, and_self, Nat.add_zero, Nat.zero_add, ne_eq, Prod.mk.injEq, amC01_0, amC01_1, amC01_nb, amNb0, amNb1, amTcpI_d, Nat.reduceLeDiff, Nat.reduceAdd, Nat.reduceSub, Nat.reduceEqDiff, Nat.le_refl, amN0le, h1, h2]
  exact amRet.of (by decide) (by decide) hK
theorem tJ4_getValue_d {b : Nat} {h : amH} {K : Option Value → amH → Prop} : tJ4_getValue [.ref b] h K = ∃ v : Nat, h.1 b = (0, 8) ∧ h.2.2.2.1 b 0 = some v ∧ K (some (.ref v)) h := rfl
def tJ4_length : amT := fun as h K => match as with
  | [.ref b] => h.1 b = (0, 8) ∧ K (some (.int (h.2.1 b 3))) h
  | _ => False
/-! java/lang/AbstractStringBuilder.length()I -/
def kJ4_length : Nat → Bool := fun pc => false
def rJ4_length : List (Nat × amS) := [(1, 1, 0, 0, amTget 8 3)]
def eJ4_length (ret : Option Value → amH → Nat → Nat → Prop) (F : amX) : Nat → amX := amWp cJ4_length kJ4_length (amLk rJ4_length) (some .int) 0 0 ret F
def sJ4_length (ret : Option Value → amH → Nat → Nat → Prop) (F : amX) : Nat → amX := amWs cJ4_length kJ4_length (amLk rJ4_length) (some .int) 0 0 ret F
theorem wJ4_length_0 {ret F n h} {v0 st} : eJ4_length ret F (n + 1) 0 [v0] (st) h 0 0 = (amIsR v0 ∧ eJ4_length ret F n 1 [v0] (v0 :: st) h 0 0) := (amWp_dec rfl dJ4_length_0 rfl).trans rfl
theorem uJ4_length_0 {ret F n h} {v0 st} : sJ4_length ret F n 0 [v0] (st) h 0 0 = (amIsR v0 ∧ eJ4_length ret F n 1 [v0] (v0 :: st) h 0 0) := (amWs_dec dJ4_length_0 rfl).trans rfl
theorem wJ4_length_1 {ret F n h} {v0 a} : eJ4_length ret F (n + 1) 1 [v0] (.ref a :: []) h 0 0 = (h.1 a = (0, 8) ∧ eJ4_length ret F n 4 [v0] (.int (h.2.1 a 3) :: []) h 0 0) := (amWp_dec rfl dJ4_length_1 rfl).trans (amS4 (Nat.le_of_ble_eq_true rfl) (Nat.le_of_ble_eq_true rfl) (Nat.le_of_ble_eq_true rfl) (Nat.le_of_ble_eq_true rfl))
theorem wJ4_length_4 {ret F n h} {v0 x} : eJ4_length ret F (n + 1) 4 [v0] ([.int x]) h 0 0 = (ret (some (.int x)) h 0 0) := (amWp_dec rfl dJ4_length_4 rfl).trans (amTrue ⟨_, rfl, rfl⟩)
theorem evJ4_length (l : Launch) (G : amG) : ∀ pc S i sz, amLk rJ4_length pc = some S → decode cJ4_length pc = .ok (i, sz) → amSiteP pc G l yJ4_length.cls yJ4_length.name yJ4_length.desc (amRm 1 0 0) i sz S.1 S.2.1 S.2.2.1 S.2.2.2 := amLk_ok (by
  refine List.forall_mem_cons.mpr ⟨⟨_, _, dJ4_length_1, amSite.P (amSiteGet ⟨_, rfl, by decide, Or.inl q626⟩)⟩, ?_⟩
  exact fun _ h => absurd h List.not_mem_nil)
theorem goJ4_length {ret F} (hF : amCld cJ4_length kJ4_length (amLk rJ4_length) (some .int) 0 0 ret F) (n : Nat) {pc ls st h k z} (q : sJ4_length ret F n pc ls st h k z) : F pc ls st h k z := hF.1 n pc ls st h k z q
theorem metJ4_length (l : Launch) (G : amG) : amMet l G yJ4_length (ws_ yJ4_length cJ4_length 1 (some .int)) 1 0 0 tJ4_length := by
  refine amMet_of (cut := kJ4_length) (by decide +kernel) (evJ4_length l G) ?_
  intro as h K hT
  match as, hT with
  | [.ref b], ⟨h1, hK⟩ =>
  refine ⟨Nat.le_of_ble_eq_true rfl, fun F hF => ?_⟩
  show F 0 [.ref b] [] h 0 0
  obtain ⟨b, rfl⟩ : ∃ i : Nat, i = b := ⟨_, rfl⟩
  refine goJ4_length hF 20 ?_
  simp (disch := omega) only [wJ4_length_0, uJ4_length_0, wJ4_length_1, wJ4_length_4, amSI_1, amSI_2, amSI_3, amSI_s, amU_at, amIsR_ref, amIsR_null, amIsR_rf, amRf_some, amRf_none, amClr_int, amClr_ref, amClr_null, amClr_long, amClr_ra, amClr_rf, amFit_int, amFit_oref, amFit_aref, amFit_onull, amFit_anull, amOptSome, amOptNone, List.cons_append, List.nil_append, true_and, and_true, true_implies, not_true_eq_false, not_false_eq_true, false_implies, and_self, Nat.add_zero, Nat.zero_add, ne_eq, Prod.mk.injEq, amC01_0, amC01_1, amC01_nb, amNb0, amNb1, amTcpI_d, Nat.reduceLeDiff, Nat.reduceAdd, Nat.reduceSub, Nat.reduceEqDiff, Nat.le_refl, amN0le, h1]
  exact amRet.of (by decide) (by decide) hK
theorem tJ4_length_d {b : Nat} {h : amH} {K : Option Value → amH → Prop} : tJ4_length [.ref b] h K = (h.1 b = (0, 8) ∧ K (some (.int (h.2.1 b 3))) h) := rfl
def tJ5_length : amT := fun as h K => match as with
  | [.ref b] => h.1 b = (0, 8) ∧ K (some (.int (h.2.1 b 3))) h
  | _ => False
/-! java/lang/StringBuilder.length()I -/
def kJ5_length : Nat → Bool := fun pc => false
def rJ5_length : List (Nat × amS) := [(1, 1, 0, 0, (amRecv 8 tJ4_length))]
def eJ5_length (ret : Option Value → amH → Nat → Nat → Prop) (F : amX) : Nat → amX := amWp cJ5_length kJ5_length (amLk rJ5_length) (some .int) 0 0 ret F
def sJ5_length (ret : Option Value → amH → Nat → Nat → Prop) (F : amX) : Nat → amX := amWs cJ5_length kJ5_length (amLk rJ5_length) (some .int) 0 0 ret F
theorem wJ5_length_0 {ret F n h} {v0 st} : eJ5_length ret F (n + 1) 0 [v0] (st) h 0 0 = (amIsR v0 ∧ eJ5_length ret F n 1 [v0] (v0 :: st) h 0 0) := (amWp_dec rfl dJ5_length_0 rfl).trans rfl
theorem uJ5_length_0 {ret F n h} {v0 st} : sJ5_length ret F n 0 [v0] (st) h 0 0 = (amIsR v0 ∧ eJ5_length ret F n 1 [v0] (v0 :: st) h 0 0) := (amWs_dec dJ5_length_0 rfl).trans rfl
theorem wJ5_length_1 {ret F n h} {v0 x0} : eJ5_length ret F (n + 1) 1 [v0] (.ref x0 :: []) h 0 0 = (h.1 x0 = (0, 8) ∧ tJ4_length [.ref x0] h (fun v h => eJ5_length ret F n 4 [v0] (v.toList ++ ([])) h 0 0)) := (amWp_dec rfl dJ5_length_1 rfl).trans (amS4 (Nat.le_of_ble_eq_true rfl) (Nat.le_of_ble_eq_true rfl) (Nat.le_of_ble_eq_true rfl) (Nat.le_of_ble_eq_true rfl))
theorem wJ5_length_4 {ret F n h} {v0 x} : eJ5_length ret F (n + 1) 4 [v0] ([.int x]) h 0 0 = (ret (some (.int x)) h 0 0) := (amWp_dec rfl dJ5_length_4 rfl).trans (amTrue ⟨_, rfl, rfl⟩)
theorem evJ5_length (l : Launch) (G : amG) : ∀ pc S i sz, amLk rJ5_length pc = some S → decode cJ5_length pc = .ok (i, sz) → amSiteP pc G l yJ5_length.cls yJ5_length.name yJ5_length.desc (amRm 2 0 0) i sz S.1 S.2.1 S.2.2.1 S.2.2.2 := amLk_ok (by
  refine List.forall_mem_cons.mpr ⟨⟨_, _, dJ5_length_1, amSite.P (amSiteSU (C := RJ5) (metJ4_length l G) rfl (by decide) (by decide) q808 q804 q635 q803 q100 q809 ⟨_, rfl, rfl⟩ ⟨by decide +kernel, by decide +kernel⟩)⟩, ?_⟩
  exact fun _ h => absurd h List.not_mem_nil)
theorem goJ5_length {ret F} (hF : amCld cJ5_length kJ5_length (amLk rJ5_length) (some .int) 0 0 ret F) (n : Nat) {pc ls st h k z} (q : sJ5_length ret F n pc ls st h k z) : F pc ls st h k z := hF.1 n pc ls st h k z q
theorem metJ5_length (l : Launch) (G : amG) : amMet l G yJ5_length (ws_ yJ5_length cJ5_length 1 (some .int)) 2 0 0 tJ5_length := by
  refine amMet_of (cut := kJ5_length) (by decide +kernel) (evJ5_length l G) ?_
  intro as h K hT
  match as, hT with
  | [.ref b], ⟨h1, hK⟩ =>
  refine ⟨Nat.le_of_ble_eq_true rfl, fun F hF => ?_⟩
  show F 0 [.ref b] [] h 0 0
  obtain ⟨b, rfl⟩ : ∃ i : Nat, i = b := ⟨_, rfl⟩
  refine goJ5_length hF 20 ?_
  simp (disch := omega) only [wJ5_length_0, uJ5_length_0, wJ5_length_1, wJ5_length_4, amSI_1, amSI_2, amSI_3, amSI_s, amU_at, amIsR_ref, amIsR_null, amIsR_rf, amRf_some, amRf_none, amClr_int, amClr_ref, amClr_null, amClr_long, amClr_ra, amClr_rf, amFit_int, amFit_oref, amFit_aref, amFit_onull, amFit_anull, amOptSome, amOptNone, List.cons_append, List.nil_append, true_and, and_true, true_implies, not_true_eq_false, not_false_eq_true, false_implies, and_self, Nat.add_zero, Nat.zero_add, ne_eq, Prod.mk.injEq, amC01_0, amC01_1, amC01_nb, amNb0, amNb1, amTcpI_d, Nat.reduceLeDiff, Nat.reduceAdd, Nat.reduceSub, Nat.reduceEqDiff, Nat.le_refl, amN0le, h1, tJ4_length_d]
  exact amRet.of (by decide) (by decide) hK
theorem tJ5_length_d {b : Nat} {h : amH} {K : Option Value → amH → Prop} : tJ5_length [.ref b] h K = (h.1 b = (0, 8) ∧ K (some (.int (h.2.1 b 3))) h) := rfl
def tJ11_checkLength : amT := fun as h K => match as with
  | [.int x, .int y] => ∃ a b : Nat, x = nI a ∧ y = nI b ∧ a ≤ b ∧ b ≤ 1000 ∧ K none h
  | _ => False
/-! java/util/Arrays.checkLength(II)V -/
def kJ11_checkLength : Nat → Bool := fun pc => false
def rJ11_checkLength : List (Nat × amS) := []
def eJ11_checkLength (ret : Option Value → amH → Nat → Nat → Prop) (F : amX) : Nat → amX := amWp cJ11_checkLength kJ11_checkLength (amLk rJ11_checkLength) none 0 0 ret F
def sJ11_checkLength (ret : Option Value → amH → Nat → Nat → Prop) (F : amX) : Nat → amX := amWs cJ11_checkLength kJ11_checkLength (amLk rJ11_checkLength) none 0 0 ret F
theorem wJ11_checkLength_0 {ret F n h} {v0 st x} : eJ11_checkLength ret F (n + 1) 0 [v0, .int x] (st) h 0 0 = (eJ11_checkLength ret F n 1 [v0, .int x] (.int x :: st) h 0 0) := (amWp_dec rfl dJ11_checkLength_0 rfl).trans rfl
theorem uJ11_checkLength_0 {ret F n h} {v0 st x} : sJ11_checkLength ret F n 0 [v0, .int x] (st) h 0 0 = (eJ11_checkLength ret F n 1 [v0, .int x] (.int x :: st) h 0 0) := (amWs_dec dJ11_checkLength_0 rfl).trans rfl
theorem wJ11_checkLength_1 {ret F n h} {v1 st x} : eJ11_checkLength ret F (n + 1) 1 [.int x, v1] (st) h 0 0 = (eJ11_checkLength ret F n 2 [.int x, v1] (.int x :: st) h 0 0) := (amWp_dec rfl dJ11_checkLength_1 rfl).trans rfl
theorem wJ11_checkLength_2 {ret F n h} {v0 v1 st y x} : eJ11_checkLength ret F (n + 1) 2 [v0, v1] (.int y :: .int x :: st) h 0 0 = ((y ≤ x → eJ11_checkLength ret F n 37 [v0, v1] (st) h 0 0) ∧ (¬ y ≤ x → eJ11_checkLength ret F n 5 [v0, v1] (st) h 0 0)) := (amWp_dec rfl dJ11_checkLength_2 rfl).trans rfl
theorem wJ11_checkLength_37 {ret F n h} {v0 v1} : eJ11_checkLength ret F (n + 1) 37 [v0, v1] ([]) h 0 0 = (ret none h 0 0) := (amWp_dec rfl dJ11_checkLength_37 rfl).trans (amTrue rfl)
theorem evJ11_checkLength (l : Launch) (G : amG) : ∀ pc S i sz, amLk rJ11_checkLength pc = some S → decode cJ11_checkLength pc = .ok (i, sz) → amSiteP pc G l yJ11_checkLength.cls yJ11_checkLength.name yJ11_checkLength.desc (amRm 1 0 0) i sz S.1 S.2.1 S.2.2.1 S.2.2.2 := amLk_ok (by
  exact fun _ h => absurd h List.not_mem_nil)
theorem goJ11_checkLength {ret F} (hF : amCld cJ11_checkLength kJ11_checkLength (amLk rJ11_checkLength) none 0 0 ret F) (n : Nat) {pc ls st h k z} (q : sJ11_checkLength ret F n pc ls st h k z) : F pc ls st h k z := hF.1 n pc ls st h k z q
theorem metJ11_checkLength (l : Launch) (G : amG) : amMet l G yJ11_checkLength (ws_ yJ11_checkLength cJ11_checkLength 2 none) 1 0 0 tJ11_checkLength := by
  refine amMet_of (cut := kJ11_checkLength) (by decide +kernel) (evJ11_checkLength l G) ?_
  intro as h K hT
  match as, hT with
  | [.int x, .int y], ⟨a, b, e1, e2, ab, b1, hK⟩ =>
  refine ⟨Nat.le_of_ble_eq_true rfl, fun F hF => ?_⟩
  show F 0 [.int x, .int y] [] h 0 0
  subst e1 e2
  have q : (a ≤ b) = True := eq_true ab
  refine goJ11_checkLength hF 20 ?_
  simp (disch := omega) only [wJ11_checkLength_0, uJ11_checkLength_0, wJ11_checkLength_1, wJ11_checkLength_2, wJ11_checkLength_37, amSI_1, amSI_2, amSI_3, amSI_s, amU_at, amIsR_ref, amIsR_null, amIsR_rf, amRf_some, amRf_none, amClr_int, amClr_ref, amClr_null, amClr_long, amClr_ra, amClr_rf, amFit_int, amFit_oref, amFit_aref, amFit_onull, amFit_anull, amOptSome, amOptNone, List.cons_append, List.nil_append, true_and, and_true, true_implies, not_true_eq_false, not_false_eq_true, false_implies, and_self, Nat.add_zero, Nat.zero_add, ne_eq, Prod.mk.injEq, amC01_0, amC01_1, amC01_nb, amNb0, amNb1, amTcpI_d, Nat.reduceLeDiff, Nat.reduceAdd, Nat.reduceSub, Nat.reduceEqDiff, Nat.le_refl, amN0le, amLeI, amLtI, amEqI, amLe0, amGt0, amEq0, amNotPosI, amGe0, amVI, amCl_nI, amAdd, amSub, amMul, q]
  exact amRet.of (by decide) (by decide) hK
theorem tJ11_checkLength_d {x y : Int32} {h : amH} {K : Option Value → amH → Prop} : tJ11_checkLength [.int x, .int y] h K = ∃ a b : Nat, x = nI a ∧ y = nI b ∧ a ≤ b ∧ b ≤ 1000 ∧ K none h := rfl
/-- a row of bytes of which the first n are another one's -/
def bytesOf (h h' : amH) (a n : Nat) : Prop := h'.2.2.2.2 = h.2.2.2.2 + 1 ∧ (∀ i, i < h.2.2.2.2 → amSame h h' i) ∧ h'.1 h.2.2.2.2 = (2, n) ∧ ∀ j, j < n → h'.2.1 h.2.2.2.2 j = h.2.1 a j
def tJ11_copyOfRangeByte : amT := fun as h K => match as with
  | [.ref a, .int f0, .int t0] => ∃ n cap : Nat, h.1 a = (2, cap) ∧ f0 = nI 0 ∧ t0 = nI n ∧ n ≤ cap ∧ cap ≤ 302 ∧ (a : Nat) < h.2.2.2.2 ∧ 24 ≤ h.2.2.2.2 ∧ ∀ h', bytesOf h h' a n → K (some (.ref h.2.2.2.2)) h'
  | _ => False
/-! java/util/Arrays.copyOfRangeByte([BII)[B -/
def kJ11_copyOfRangeByte : Nat → Bool := fun pc => false
def rJ11_copyOfRangeByte : List (Nat × amS) := [(2, 2, 0, 0, tJ11_checkLength), (24, 2, 0, 0, amTmin), (27, 5, 0, 0, amTcpI)]
def eJ11_copyOfRangeByte (ret : Option Value → amH → Nat → Nat → Prop) (F : amX) : Nat → amX := amWp cJ11_copyOfRangeByte kJ11_copyOfRangeByte (amLk rJ11_copyOfRangeByte) (some (FieldType.array FieldType.byte)) 1 302 ret F
def sJ11_copyOfRangeByte (ret : Option Value → amH → Nat → Nat → Prop) (F : amX) : Nat → amX := amWs cJ11_copyOfRangeByte kJ11_copyOfRangeByte (amLk rJ11_copyOfRangeByte) (some (FieldType.array FieldType.byte)) 1 302 ret F
theorem wJ11_copyOfRangeByte_0 {ret F n h k z} {v0 v2 v3 v4 st x} : eJ11_copyOfRangeByte ret F (n + 1) 0 [v0, .int x, v2, v3, v4] (st) h k z = (eJ11_copyOfRangeByte ret F n 1 [v0, .int x, v2, v3, v4] (.int x :: st) h k z) := (amWp_dec rfl dJ11_copyOfRangeByte_0 rfl).trans rfl
theorem uJ11_copyOfRangeByte_0 {ret F n h k z} {v0 v2 v3 v4 st x} : sJ11_copyOfRangeByte ret F n 0 [v0, .int x, v2, v3, v4] (st) h k z = (eJ11_copyOfRangeByte ret F n 1 [v0, .int x, v2, v3, v4] (.int x :: st) h k z) := (amWs_dec dJ11_copyOfRangeByte_0 rfl).trans rfl
theorem wJ11_copyOfRangeByte_1 {ret F n h k z} {v0 v1 v3 v4 st x} : eJ11_copyOfRangeByte ret F (n + 1) 1 [v0, v1, .int x, v3, v4] (st) h k z = (eJ11_copyOfRangeByte ret F n 2 [v0, v1, .int x, v3, v4] (.int x :: st) h k z) := (amWp_dec rfl dJ11_copyOfRangeByte_1 rfl).trans rfl
theorem wJ11_copyOfRangeByte_2 {ret F n h k z} {v0 v1 v2 v3 v4 x1 x0} : eJ11_copyOfRangeByte ret F (n + 1) 2 [v0, v1, v2, v3, v4] (.int x1 :: .int x0 :: []) h k z = (k + 0 ≤ 1 ∧ z + 0 ≤ 302 ∧ tJ11_checkLength [.int x0, .int x1] h (fun v h => eJ11_copyOfRangeByte ret F n 5 [v0, v1, v2, v3, v4] (v.toList ++ ([])) h (k + 0) (z + 0))) := (amWp_dec rfl dJ11_copyOfRangeByte_2 rfl).trans (amS2 (Nat.le_of_ble_eq_true rfl) (Nat.le_of_ble_eq_true rfl))
theorem wJ11_copyOfRangeByte_5 {ret F n h k z} {v0 v1 v3 v4 st x} : eJ11_copyOfRangeByte ret F (n + 1) 5 [v0, v1, .int x, v3, v4] (st) h k z = (eJ11_copyOfRangeByte ret F n 6 [v0, v1, .int x, v3, v4] (.int x :: st) h k z) := (amWp_dec rfl dJ11_copyOfRangeByte_5 rfl).trans rfl
theorem wJ11_copyOfRangeByte_6 {ret F n h k z} {v0 v2 v3 v4 st x} : eJ11_copyOfRangeByte ret F (n + 1) 6 [v0, .int x, v2, v3, v4] (st) h k z = (eJ11_copyOfRangeByte ret F n 7 [v0, .int x, v2, v3, v4] (.int x :: st) h k z) := (amWp_dec rfl dJ11_copyOfRangeByte_6 rfl).trans rfl
theorem wJ11_copyOfRangeByte_7 {ret F n h k z} {v0 v1 v2 v3 v4 st y x} : eJ11_copyOfRangeByte ret F (n + 1) 7 [v0, v1, v2, v3, v4] (.int y :: .int x :: st) h k z = (eJ11_copyOfRangeByte ret F n 8 [v0, v1, v2, v3, v4] (.int (x - y) :: st) h k z) := (amWp_dec rfl dJ11_copyOfRangeByte_7 rfl).trans rfl
theorem wJ11_copyOfRangeByte_8 {ret F n h k z} {v0 v1 v2 v3 v4 st x} : eJ11_copyOfRangeByte ret F (n + 1) 8 [v0, v1, v2, v3, v4] (.int x :: st) h k z = (eJ11_copyOfRangeByte ret F n 9 [v0, v1, amClr v2, .int x, v4] (st) h k z) := (amWp_dec rfl dJ11_copyOfRangeByte_8 rfl).trans (amTrue (Nat.le_of_ble_eq_true rfl))
theorem wJ11_copyOfRangeByte_9 {ret F n h k z} {v0 v1 v2 v4 st x} : eJ11_copyOfRangeByte ret F (n + 1) 9 [v0, v1, v2, .int x, v4] (st) h k z = (eJ11_copyOfRangeByte ret F n 10 [v0, v1, v2, .int x, v4] (.int x :: st) h k z) := (amWp_dec rfl dJ11_copyOfRangeByte_9 rfl).trans rfl
theorem wJ11_copyOfRangeByte_10 {ret F n h k z} {v0 v1 v2 v3 v4 st x} : eJ11_copyOfRangeByte ret F (n + 1) 10 [v0, v1, v2, v3, v4] (.int x :: st) h k z = (¬ x < 0 ∧ x.toNatClampNeg ≤ 67108864 ∧ k + 1 ≤ 1 ∧ z + x.toNatClampNeg ≤ 302 ∧ eJ11_copyOfRangeByte ret F n 12 [v0, v1, v2, v3, v4] (.ref h.2.2.2.2 :: st) (amNew h (2, x.toNatClampNeg)) (k + 1) (z + x.toNatClampNeg)) := (amWp_dec rfl dJ11_copyOfRangeByte_10 rfl).trans (amTrue (Nat.le_of_ble_eq_true rfl))
theorem wJ11_copyOfRangeByte_12 {ret F n h k z} {v0 v1 v2 v3 v4 w st} : eJ11_copyOfRangeByte ret F (n + 1) 12 [v0, v1, v2, v3, v4] (w :: st) h k z = (amIsR w ∧ eJ11_copyOfRangeByte ret F n 14 [v0, v1, v2, amClr v3, w] (st) h k z) := (amWp_dec rfl dJ11_copyOfRangeByte_12 rfl).trans (amTrue2 (Nat.le_of_ble_eq_true rfl))
theorem wJ11_copyOfRangeByte_14 {ret F n h k z} {v0 v1 v2 v3 v4 st} : eJ11_copyOfRangeByte ret F (n + 1) 14 [v0, v1, v2, v3, v4] (st) h k z = (amIsR v0 ∧ eJ11_copyOfRangeByte ret F n 15 [v0, v1, v2, v3, v4] (v0 :: st) h k z) := (amWp_dec rfl dJ11_copyOfRangeByte_14 rfl).trans rfl
theorem wJ11_copyOfRangeByte_15 {ret F n h k z} {v0 v2 v3 v4 st x} : eJ11_copyOfRangeByte ret F (n + 1) 15 [v0, .int x, v2, v3, v4] (st) h k z = (eJ11_copyOfRangeByte ret F n 16 [v0, .int x, v2, v3, v4] (.int x :: st) h k z) := (amWp_dec rfl dJ11_copyOfRangeByte_15 rfl).trans rfl
theorem wJ11_copyOfRangeByte_16 {ret F n h k z} {v0 v1 v2 v3 v4 st} : eJ11_copyOfRangeByte ret F (n + 1) 16 [v0, v1, v2, v3, v4] (st) h k z = (amIsR v4 ∧ eJ11_copyOfRangeByte ret F n 18 [v0, v1, v2, v3, v4] (v4 :: st) h k z) := (amWp_dec rfl dJ11_copyOfRangeByte_16 rfl).trans rfl
theorem wJ11_copyOfRangeByte_18 {ret F n h k z} {v0 v1 v2 v3 v4 st} : eJ11_copyOfRangeByte ret F (n + 1) 18 [v0, v1, v2, v3, v4] (st) h k z = (eJ11_copyOfRangeByte ret F n 19 [v0, v1, v2, v3, v4] (.int (nI 0) :: st) h k z) := (amWp_dec rfl dJ11_copyOfRangeByte_18 rfl).trans rfl
theorem wJ11_copyOfRangeByte_19 {ret F n h k z} {v0 v1 v2 v3 v4 st} : eJ11_copyOfRangeByte ret F (n + 1) 19 [v0, v1, v2, v3, v4] (st) h k z = (amIsR v0 ∧ eJ11_copyOfRangeByte ret F n 20 [v0, v1, v2, v3, v4] (v0 :: st) h k z) := (amWp_dec rfl dJ11_copyOfRangeByte_19 rfl).trans rfl
theorem wJ11_copyOfRangeByte_20 {ret F n h k z} {v0 v1 v2 v3 v4 st a} : eJ11_copyOfRangeByte ret F (n + 1) 20 [v0, v1, v2, v3, v4] (.ref a :: st) h k z = (1 ≤ (h.1 a).1 ∧ (h.1 a).1 ≤ 8 ∧ eJ11_copyOfRangeByte ret F n 21 [v0, v1, v2, v3, v4] (.int (nI (h.1 a).2) :: st) h k z) := (amWp_dec rfl dJ11_copyOfRangeByte_20 rfl).trans rfl
theorem wJ11_copyOfRangeByte_21 {ret F n h k z} {v0 v2 v3 v4 st x} : eJ11_copyOfRangeByte ret F (n + 1) 21 [v0, .int x, v2, v3, v4] (st) h k z = (eJ11_copyOfRangeByte ret F n 22 [v0, .int x, v2, v3, v4] (.int x :: st) h k z) := (amWp_dec rfl dJ11_copyOfRangeByte_21 rfl).trans rfl
theorem wJ11_copyOfRangeByte_22 {ret F n h k z} {v0 v1 v2 v3 v4 st y x} : eJ11_copyOfRangeByte ret F (n + 1) 22 [v0, v1, v2, v3, v4] (.int y :: .int x :: st) h k z = (eJ11_copyOfRangeByte ret F n 23 [v0, v1, v2, v3, v4] (.int (x - y) :: st) h k z) := (amWp_dec rfl dJ11_copyOfRangeByte_22 rfl).trans rfl
theorem wJ11_copyOfRangeByte_23 {ret F n h k z} {v0 v1 v2 v4 st x} : eJ11_copyOfRangeByte ret F (n + 1) 23 [v0, v1, v2, .int x, v4] (st) h k z = (eJ11_copyOfRangeByte ret F n 24 [v0, v1, v2, .int x, v4] (.int x :: st) h k z) := (amWp_dec rfl dJ11_copyOfRangeByte_23 rfl).trans rfl
theorem wJ11_copyOfRangeByte_24 {ret F n h k z} {v0 v1 v2 v3 v4 x1 x0 r0 r1 r2 r3} : eJ11_copyOfRangeByte ret F (n + 1) 24 [v0, v1, v2, v3, v4] (.int x1 :: .int x0 :: r0 :: r1 :: r2 :: r3 :: []) h k z = (k + 0 ≤ 1 ∧ z + 0 ≤ 302 ∧ amTmin [.int x0, .int x1] h (fun v h => eJ11_copyOfRangeByte ret F n 27 [v0, v1, v2, v3, v4] (v.toList ++ (r0 :: r1 :: r2 :: r3 :: [])) h (k + 0) (z + 0))) := (amWp_dec rfl dJ11_copyOfRangeByte_24 rfl).trans (amS2 (Nat.le_of_ble_eq_true rfl) (Nat.le_of_ble_eq_true rfl))
theorem wJ11_copyOfRangeByte_27 {ret F n h k z} {v0 v1 v2 v3 v4 x4 x3 x2 x1 x0} : eJ11_copyOfRangeByte ret F (n + 1) 27 [v0, v1, v2, v3, v4] (.int x4 :: .int x3 :: .ref x2 :: .int x1 :: .ref x0 :: []) h k z = (k + 0 ≤ 1 ∧ z + 0 ≤ 302 ∧ amTcpI [.ref x0, .int x1, .ref x2, .int x3, .int x4] h (fun v h => eJ11_copyOfRangeByte ret F n 30 [v0, v1, v2, v3, v4] (v.toList ++ ([])) h (k + 0) (z + 0))) := (amWp_dec rfl dJ11_copyOfRangeByte_27 rfl).trans (amS2 (Nat.le_of_ble_eq_true rfl) (Nat.le_of_ble_eq_true rfl))
theorem wJ11_copyOfRangeByte_30 {ret F n h k z} {v0 v1 v2 v3 v4 st} : eJ11_copyOfRangeByte ret F (n + 1) 30 [v0, v1, v2, v3, v4] (st) h k z = (amIsR v4 ∧ eJ11_copyOfRangeByte ret F n 32 [v0, v1, v2, v3, v4] (v4 :: st) h k z) := (amWp_dec rfl dJ11_copyOfRangeByte_30 rfl).trans rfl
theorem wJ11_copyOfRangeByte_32 {ret F n h k z} {v0 v1 v2 v3 v4 w} : eJ11_copyOfRangeByte ret F (n + 1) 32 [v0, v1, v2, v3, v4] ([w]) h k z = (amIsR w ∧ ret (some w) h k z) := (amWp_dec rfl dJ11_copyOfRangeByte_32 rfl).trans (amTrue ⟨_, rfl, rfl⟩)
theorem evJ11_copyOfRangeByte (l : Launch) (G : amG) : ∀ pc S i sz, amLk rJ11_copyOfRangeByte pc = some S → decode cJ11_copyOfRangeByte pc = .ok (i, sz) → amSiteP pc G l yJ11_copyOfRangeByte.cls yJ11_copyOfRangeByte.name yJ11_copyOfRangeByte.desc (amRm 2 1 302) i sz S.1 S.2.1 S.2.2.1 S.2.2.2 := amLk_ok (by
  refine List.forall_mem_cons.mpr ⟨⟨_, _, dJ11_copyOfRangeByte_2, amSite.P (amSiteS (metJ11_checkLength l G) rfl (by decide) (by decide) (lw_S q817 q818 q107 q819) ⟨by decide +kernel, by decide +kernel, by decide +kernel⟩)⟩, ?_⟩
  refine List.forall_mem_cons.mpr ⟨⟨_, _, dJ11_copyOfRangeByte_24, amSite.P (amSiteMin rfl (by decide) q676)⟩, ?_⟩
  refine List.forall_mem_cons.mpr ⟨⟨_, _, dJ11_copyOfRangeByte_27, amSite.P (amSiteCpI rfl (by decide) q679 q473 q472 q95)⟩, ?_⟩
  exact fun _ h => absurd h List.not_mem_nil)
theorem goJ11_copyOfRangeByte {ret F} (hF : amCld cJ11_copyOfRangeByte kJ11_copyOfRangeByte (amLk rJ11_copyOfRangeByte) (some (FieldType.array FieldType.byte)) 1 302 ret F) (n : Nat) {pc ls st h k z} (q : sJ11_copyOfRangeByte ret F n pc ls st h k z) : F pc ls st h k z := hF.1 n pc ls st h k z q
theorem metJ11_copyOfRangeByte (l : Launch) (G : amG) : amMet l G yJ11_copyOfRangeByte (ws_ yJ11_copyOfRangeByte cJ11_copyOfRangeByte 5 (some (FieldType.array FieldType.byte))) 2 1 302 tJ11_copyOfRangeByte := by
  refine amMet_of (cut := kJ11_copyOfRangeByte) (by decide +kernel) (evJ11_copyOfRangeByte l G) ?_
  intro as h K hT
  match as, hT with
  | [.ref a, .int f0, .int t0], ⟨n, cap, h1, e1, e2, nc, c3, an, n24, hK⟩ =>
  refine ⟨Nat.le_of_ble_eq_true rfl, fun F hF => ?_⟩
  show F 0 [.ref a, .int f0, .int t0, .retAddr 0, .retAddr 0] [] h 0 0
  obtain ⟨a, rfl⟩ : ∃ i : Nat, i = a := ⟨_, rfl⟩
  subst e1 e2
  have i2 : (n ≤ 302) = True := eq_true (by omega)
  have i3 : (n ≤ 67108864) = True := eq_true (by omega)
  have mn : (if n < cap then nI n else nI cap) = nI n := by
    by_cases y : n < cap
    · exact if_pos y
    · rw [if_neg y, show cap = n by omega]
  have n24' : (amN0 ≤ h.2.2.2.2) = True := eq_true n24
  have sa : (amNew h (2, n)).1 a = (2, cap) := by rw [amNew_1 an]; exact h1
  have sn : (amNew h (2, n)).1 h.2.2.2.2 = (2, n) := amNew_sh h _
  have c1 : (n ≤ cap) = True := eq_true nc
  have c2 : (n ≤ n) = True := eq_true (Nat.le_refl n)
  refine goJ11_copyOfRangeByte hF 60 ?_
  simp (disch := omega) only [wJ11_copyOfRangeByte_0, uJ11_copyOfRangeByte_0, wJ11_copyOfRangeByte_1, wJ11_copyOfRangeByte_2, wJ11_copyOfRangeByte_5, wJ11_copyOfRangeByte_6, wJ11_copyOfRangeByte_7, wJ11_copyOfRangeByte_8, wJ11_copyOfRangeByte_9, wJ11_copyOfRangeByte_10, wJ11_copyOfRangeByte_12, wJ11_copyOfRangeByte_14, wJ11_copyOfRangeByte_15, wJ11_copyOfRangeByte_16, wJ11_copyOfRangeByte_18, wJ11_copyOfRangeByte_19, wJ11_copyOfRangeByte_20, wJ11_copyOfRangeByte_21, wJ11_copyOfRangeByte_22, wJ11_copyOfRangeByte_23, wJ11_copyOfRangeByte_24, wJ11_copyOfRangeByte_27, wJ11_copyOfRangeByte_30, wJ11_copyOfRangeByte_32, amSI_1, amSI_2, amSI_3, amSI_s, amU_at, amIsR_ref, amIsR_null, amIsR_rf, amRf_some, amRf_none, amClr_int, amClr_ref, amClr_null, amClr_long, amClr_ra, amClr_rf, amFit_int, amFit_oref, amFit_aref, amFit_onull, amFit_anull, amOptSome, amOptNone, List.cons_append, List.nil_append, true_and, and_true, true_implies, not_true_eq_false, not_false_eq_true, false_implies, and_self, Nat.add_zero, Nat.zero_add, ne_eq, Prod.mk.injEq, amC01_0, amC01_1, amC01_nb, amNb0, amNb1, amTcpI_d, Nat.reduceLeDiff, Nat.reduceAdd, Nat.reduceSub, Nat.reduceEqDiff, Nat.le_refl, amN0le, h1, amLeI, amLtI, amEqI, amLe0, amGt0, amEq0, amNotPosI, amGe0, amVI, amCl_nI, amAdd, amSub, amMul, i2, i3, sa, sn, n24', amTmin_d, amTcpI_d, c1, c2, tJ11_checkLength_d]
  refine ⟨0, n, rfl, rfl, Nat.zero_le _, by omega, ?_⟩
  simp (disch := omega) only [wJ11_copyOfRangeByte_0, uJ11_copyOfRangeByte_0, wJ11_copyOfRangeByte_1, wJ11_copyOfRangeByte_2, wJ11_copyOfRangeByte_5, wJ11_copyOfRangeByte_6, wJ11_copyOfRangeByte_7, wJ11_copyOfRangeByte_8, wJ11_copyOfRangeByte_9, wJ11_copyOfRangeByte_10, wJ11_copyOfRangeByte_12, wJ11_copyOfRangeByte_14, wJ11_copyOfRangeByte_15, wJ11_copyOfRangeByte_16, wJ11_copyOfRangeByte_18, wJ11_copyOfRangeByte_19, wJ11_copyOfRangeByte_20, wJ11_copyOfRangeByte_21, wJ11_copyOfRangeByte_22, wJ11_copyOfRangeByte_23, wJ11_copyOfRangeByte_24, wJ11_copyOfRangeByte_27, wJ11_copyOfRangeByte_30, wJ11_copyOfRangeByte_32, amSI_1, amSI_2, amSI_3, amSI_s, amU_at, amIsR_ref, amIsR_null, amIsR_rf, amRf_some, amRf_none, amClr_int, amClr_ref, amClr_null, amClr_long, amClr_ra, amClr_rf, amFit_int, amFit_oref, amFit_aref, amFit_onull, amFit_anull, amOptSome, amOptNone, List.cons_append, List.nil_append, true_and, and_true, true_implies, not_true_eq_false, not_false_eq_true, false_implies, and_self, Nat.add_zero, Nat.zero_add, ne_eq, Prod.mk.injEq, amC01_0, amC01_1, amC01_nb, amNb0, amNb1, amTcpI_d, Nat.reduceLeDiff, Nat.reduceAdd, Nat.reduceSub, Nat.reduceEqDiff, Nat.le_refl, amN0le, h1, amLeI, amLtI, amEqI, amLe0, amGt0, amEq0, amNotPosI, amGe0, amVI, amCl_nI, amAdd, amSub, amMul, i2, i3, mn, sa, sn, n24', amTmin_d, amTcpI_d, c1, c2, Nat.sub_zero]
  refine amRet.of (by decide) (by omega) (hK _ ⟨rfl, fun i hi => ?_, sn, fun j hj => ?_⟩)
  · refine (amNew_same hi).tr ⟨rfl, ?_, rfl, rfl⟩
    exact if_neg (by omega)
  · show va_up (amNew h (2, n)).2.1 h.2.2.2.2 (va_cpy ((amNew h (2, n)).2.1 a) ((amNew h (2, n)).2.1 h.2.2.2.2) 0 0 n) h.2.2.2.2 j = _
    rw [up_at]
    unfold va_cpy
    rw [if_pos (by omega)]
    have := (amNew_same (s := (2, n)) an).2.1
    rw [this, Nat.sub_zero, Nat.zero_add]
theorem tJ11_copyOfRangeByte_d {a : Nat} {f0 t0 : Int32} {h : amH} {K : Option Value → amH → Prop} : tJ11_copyOfRangeByte [.ref a, .int f0, .int t0] h K = ∃ n cap : Nat, h.1 a = (2, cap) ∧ f0 = nI 0 ∧ t0 = nI n ∧ n ≤ cap ∧ cap ≤ 302 ∧ (a : Nat) < h.2.2.2.2 ∧ 24 ≤ h.2.2.2.2 ∧ ∀ h', bytesOf h h' a n → K (some (.ref h.2.2.2.2)) h' := rfl
def tJ11_copyOfRange : amT := fun as h K => match as with
  | [.ref a, .int f0, .int t0] => ∃ n cap : Nat, h.1 a = (2, cap) ∧ f0 = nI 0 ∧ t0 = nI n ∧ n ≤ cap ∧ cap ≤ 302 ∧ (a : Nat) < h.2.2.2.2 ∧ (24 : Nat) ≤ a ∧ 24 ≤ h.2.2.2.2 ∧ ∀ h', bytesOf h h' a n → K (some (.ref h.2.2.2.2)) h'
  | _ => False
/-! java/util/Arrays.copyOfRange([BII)[B -/
def kJ11_copyOfRange : Nat → Bool := fun pc => pc == 16
def rJ11_copyOfRange : List (Nat × amS) := [(13, 3, 1, 302, tJ11_copyOfRangeByte), (18, 1, 1, 400, amTclone), (21, 1, 0, 0, amTcst 2)]
def eJ11_copyOfRange (ret : Option Value → amH → Nat → Nat → Prop) (F : amX) : Nat → amX := amWp cJ11_copyOfRange kJ11_copyOfRange (amLk rJ11_copyOfRange) (some (FieldType.array FieldType.byte)) 1 400 ret F
def sJ11_copyOfRange (ret : Option Value → amH → Nat → Nat → Prop) (F : amX) : Nat → amX := amWs cJ11_copyOfRange kJ11_copyOfRange (amLk rJ11_copyOfRange) (some (FieldType.array FieldType.byte)) 1 400 ret F
theorem wJ11_copyOfRange_0 {ret F n h k z} {v0 v2 st x} : eJ11_copyOfRange ret F (n + 1) 0 [v0, .int x, v2] (st) h k z = (eJ11_copyOfRange ret F n 1 [v0, .int x, v2] (.int x :: st) h k z) := (amWp_dec rfl dJ11_copyOfRange_0 rfl).trans rfl
theorem uJ11_copyOfRange_0 {ret F n h k z} {v0 v2 st x} : sJ11_copyOfRange ret F n 0 [v0, .int x, v2] (st) h k z = (eJ11_copyOfRange ret F n 1 [v0, .int x, v2] (.int x :: st) h k z) := (amWs_dec dJ11_copyOfRange_0 rfl).trans rfl
theorem wJ11_copyOfRange_1 {ret F n h k z} {v0 v1 v2 st x} : eJ11_copyOfRange ret F (n + 1) 1 [v0, v1, v2] (.int x :: st) h k z = ((¬ x = 0 → eJ11_copyOfRange ret F n 10 [v0, v1, v2] (st) h k z) ∧ (x = 0 → eJ11_copyOfRange ret F n 4 [v0, v1, v2] (st) h k z)) := (amWp_dec rfl dJ11_copyOfRange_1 rfl).trans rfl
theorem wJ11_copyOfRange_4 {ret F n h k z} {v0 v1 st x} : eJ11_copyOfRange ret F (n + 1) 4 [v0, v1, .int x] (st) h k z = (eJ11_copyOfRange ret F n 5 [v0, v1, .int x] (.int x :: st) h k z) := (amWp_dec rfl dJ11_copyOfRange_4 rfl).trans rfl
theorem wJ11_copyOfRange_5 {ret F n h k z} {v0 v1 v2 st} : eJ11_copyOfRange ret F (n + 1) 5 [v0, v1, v2] (st) h k z = (amIsR v0 ∧ eJ11_copyOfRange ret F n 6 [v0, v1, v2] (v0 :: st) h k z) := (amWp_dec rfl dJ11_copyOfRange_5 rfl).trans rfl
theorem wJ11_copyOfRange_6 {ret F n h k z} {v0 v1 v2 st a} : eJ11_copyOfRange ret F (n + 1) 6 [v0, v1, v2] (.ref a :: st) h k z = (1 ≤ (h.1 a).1 ∧ (h.1 a).1 ≤ 8 ∧ eJ11_copyOfRange ret F n 7 [v0, v1, v2] (.int (nI (h.1 a).2) :: st) h k z) := (amWp_dec rfl dJ11_copyOfRange_6 rfl).trans rfl
theorem wJ11_copyOfRange_7 {ret F n h k z} {v0 v1 v2 st y x} : eJ11_copyOfRange ret F (n + 1) 7 [v0, v1, v2] (.int y :: .int x :: st) h k z = ((x = y → eJ11_copyOfRange ret F n 17 [v0, v1, v2] (st) h k z) ∧ (¬ x = y → eJ11_copyOfRange ret F n 10 [v0, v1, v2] (st) h k z)) := (amWp_dec rfl dJ11_copyOfRange_7 rfl).trans rfl
theorem wJ11_copyOfRange_10 {ret F n h k z} {v0 v1 v2 st} : eJ11_copyOfRange ret F (n + 1) 10 [v0, v1, v2] (st) h k z = (amIsR v0 ∧ eJ11_copyOfRange ret F n 11 [v0, v1, v2] (v0 :: st) h k z) := (amWp_dec rfl dJ11_copyOfRange_10 rfl).trans rfl
theorem wJ11_copyOfRange_11 {ret F n h k z} {v0 v2 st x} : eJ11_copyOfRange ret F (n + 1) 11 [v0, .int x, v2] (st) h k z = (eJ11_copyOfRange ret F n 12 [v0, .int x, v2] (.int x :: st) h k z) := (amWp_dec rfl dJ11_copyOfRange_11 rfl).trans rfl
theorem wJ11_copyOfRange_12 {ret F n h k z} {v0 v1 st x} : eJ11_copyOfRange ret F (n + 1) 12 [v0, v1, .int x] (st) h k z = (eJ11_copyOfRange ret F n 13 [v0, v1, .int x] (.int x :: st) h k z) := (amWp_dec rfl dJ11_copyOfRange_12 rfl).trans rfl
theorem wJ11_copyOfRange_13 {ret F n h k z} {v0 v1 v2 x2 x1 x0} : eJ11_copyOfRange ret F (n + 1) 13 [v0, v1, v2] (.int x2 :: .int x1 :: .ref x0 :: []) h k z = (k + 1 ≤ 1 ∧ z + 302 ≤ 400 ∧ tJ11_copyOfRangeByte [.ref x0, .int x1, .int x2] h (fun v h => eJ11_copyOfRange ret F n 16 [v0, v1, v2] (v.toList ++ ([])) h (k + 1) (z + 302))) := (amWp_dec rfl dJ11_copyOfRange_13 rfl).trans (amS2 (Nat.le_of_ble_eq_true rfl) (Nat.le_of_ble_eq_true rfl))
theorem wJ11_copyOfRange_16 {ret F n ls st h k z} : eJ11_copyOfRange ret F (n + 1) 16 ls st h k z = F 16 ls st h k z := amWp_cut rfl
theorem uJ11_copyOfRange_16 {ret F n h k z} {v0 v1 v2 w} : sJ11_copyOfRange ret F n 16 [v0, v1, v2] ([w]) h k z = (amIsR w ∧ ret (some w) h k z) := (amWs_dec dJ11_copyOfRange_16 rfl).trans (amTrue ⟨_, rfl, rfl⟩)
theorem wJ11_copyOfRange_17 {ret F n h k z} {v0 v1 v2 st} : eJ11_copyOfRange ret F (n + 1) 17 [v0, v1, v2] (st) h k z = (amIsR v0 ∧ eJ11_copyOfRange ret F n 18 [v0, v1, v2] (v0 :: st) h k z) := (amWp_dec rfl dJ11_copyOfRange_17 rfl).trans rfl
theorem wJ11_copyOfRange_18 {ret F n h k z} {v0 v1 v2 x0} : eJ11_copyOfRange ret F (n + 1) 18 [v0, v1, v2] (.ref x0 :: []) h k z = (k + 1 ≤ 1 ∧ z + 400 ≤ 400 ∧ amTclone [.ref x0] h (fun v h => eJ11_copyOfRange ret F n 21 [v0, v1, v2] (v.toList ++ ([])) h (k + 1) (z + 400))) := (amWp_dec rfl dJ11_copyOfRange_18 rfl).trans (amS2 (Nat.le_of_ble_eq_true rfl) (Nat.le_of_ble_eq_true rfl))
theorem wJ11_copyOfRange_21 {ret F n h k z} {v0 v1 v2 a} : eJ11_copyOfRange ret F (n + 1) 21 [v0, v1, v2] (.ref a :: []) h k z = (k + 0 ≤ 1 ∧ z + 0 ≤ 400 ∧ (h.1 a).1 = 2 ∧ eJ11_copyOfRange ret F n 24 [v0, v1, v2] (.ref a :: []) h (k + 0) (z + 0)) := (amWp_dec rfl dJ11_copyOfRange_21 rfl).trans (amS2 (Nat.le_of_ble_eq_true rfl) (Nat.le_of_ble_eq_true rfl))
theorem wJ11_copyOfRange_24 {ret F n h k z} {v0 v1 v2 w} : eJ11_copyOfRange ret F (n + 1) 24 [v0, v1, v2] ([w]) h k z = (amIsR w ∧ ret (some w) h k z) := (amWp_dec rfl dJ11_copyOfRange_24 rfl).trans (amTrue ⟨_, rfl, rfl⟩)
theorem evJ11_copyOfRange (l : Launch) (G : amG) : ∀ pc S i sz, amLk rJ11_copyOfRange pc = some S → decode cJ11_copyOfRange pc = .ok (i, sz) → amSiteP pc G l yJ11_copyOfRange.cls yJ11_copyOfRange.name yJ11_copyOfRange.desc (amRm 3 1 400) i sz S.1 S.2.1 S.2.2.1 S.2.2.2 := amLk_ok (by
  refine List.forall_mem_cons.mpr ⟨⟨_, _, dJ11_copyOfRange_13, amSite.P (amSiteS (metJ11_copyOfRangeByte l G) rfl (by decide) (by decide) (lw_S q814 q815 q107 q816) ⟨by decide +kernel, by decide +kernel, by decide +kernel⟩)⟩, ?_⟩
  refine List.forall_mem_cons.mpr ⟨⟨_, _, dJ11_copyOfRange_18, amSite.P (amSiteClone rfl (by decide) q669)⟩, ?_⟩
  refine List.forall_mem_cons.mpr ⟨⟨_, _, dJ11_copyOfRange_21, amSite.P (amSiteCst (by decide) q675)⟩, ?_⟩
  exact fun _ h => absurd h List.not_mem_nil)
theorem goJ11_copyOfRange {ret F} (hF : amCld cJ11_copyOfRange kJ11_copyOfRange (amLk rJ11_copyOfRange) (some (FieldType.array FieldType.byte)) 1 400 ret F) (n : Nat) {pc ls st h k z} (q : sJ11_copyOfRange ret F n pc ls st h k z) : F pc ls st h k z := hF.1 n pc ls st h k z q
theorem metJ11_copyOfRange (l : Launch) (G : amG) : amMet l G yJ11_copyOfRange (ws_ yJ11_copyOfRange cJ11_copyOfRange 3 (some (FieldType.array FieldType.byte))) 3 1 400 tJ11_copyOfRange := by
  refine amMet_of (cut := kJ11_copyOfRange) (by decide +kernel) (evJ11_copyOfRange l G) ?_
  intro as h K hT
  match as, hT with
  | [.ref a, .int f0, .int t0], ⟨n, cap, h1, e1, e2, nc, c3, an, a24, n24, hK⟩ =>
  refine ⟨Nat.le_of_ble_eq_true rfl, fun F hF => ?_⟩
  show F 0 [.ref a, .int f0, .int t0] [] h 0 0
  obtain ⟨a, rfl⟩ : ∃ i : Nat, i = a := ⟨_, rfl⟩
  have a24 : (24 : Nat) ≤ a := a24
  subst e1 e2
  by_cases c : n = cap
  · have c' : (n = cap) = True := eq_true c
    have sn : (amClone h a).1 h.2.2.2.2 = (2, cap) := by simp [amClone, va_up, h1]
    have key := hK (amClone h a) ⟨rfl, fun i hi => ⟨if_neg (by omega), if_neg (by omega), rfl, rfl⟩, by rw [sn, c], fun j hj => by simp [amClone, va_up]⟩
    refine goJ11_copyOfRange hF 60 ?_
    simp (disch := omega) only [wJ11_copyOfRange_0, uJ11_copyOfRange_0, wJ11_copyOfRange_1, wJ11_copyOfRange_4, wJ11_copyOfRange_5, wJ11_copyOfRange_6, wJ11_copyOfRange_7, wJ11_copyOfRange_10, wJ11_copyOfRange_11, wJ11_copyOfRange_12, wJ11_copyOfRange_13, wJ11_copyOfRange_16, uJ11_copyOfRange_16, wJ11_copyOfRange_17, wJ11_copyOfRange_18, wJ11_copyOfRange_21, wJ11_copyOfRange_24, amSI_1, amSI_2, amSI_3, amSI_s, amU_at, amIsR_ref, amIsR_null, amIsR_rf, amRf_some, amRf_none, amClr_int, amClr_ref, amClr_null, amClr_long, amClr_ra, amClr_rf, amFit_int, amFit_oref, amFit_aref, amFit_onull, amFit_anull, amOptSome, amOptNone, List.cons_append, List.nil_append, true_and, and_true, true_implies, not_true_eq_false, not_false_eq_true, false_implies, and_self, Nat.add_zero, Nat.zero_add, ne_eq, Prod.mk.injEq, amC01_0, amC01_1, amC01_nb, amNb0, amNb1, amTcpI_d, Nat.reduceLeDiff, Nat.reduceAdd, Nat.reduceSub, Nat.reduceEqDiff, Nat.le_refl, amN0le, h1, amLeI, amLtI, amEqI, amLe0, amGt0, amEq0, amNotPosI, amGe0, amVI, amCl_nI, amAdd, amSub, amMul, c']
    refine ⟨cap, h1, by omega, show amN0 ≤ a from a24, ?_⟩
    simp (disch := omega) only [wJ11_copyOfRange_0, uJ11_copyOfRange_0, wJ11_copyOfRange_1, wJ11_copyOfRange_4, wJ11_copyOfRange_5, wJ11_copyOfRange_6, wJ11_copyOfRange_7, wJ11_copyOfRange_10, wJ11_copyOfRange_11, wJ11_copyOfRange_12, wJ11_copyOfRange_13, wJ11_copyOfRange_16, uJ11_copyOfRange_16, wJ11_copyOfRange_17, wJ11_copyOfRange_18, wJ11_copyOfRange_21, wJ11_copyOfRange_24, amSI_1, amSI_2, amSI_3, amSI_s, amU_at, amIsR_ref, amIsR_null, amIsR_rf, amRf_some, amRf_none, amClr_int, amClr_ref, amClr_null, amClr_long, amClr_ra, amClr_rf, amFit_int, amFit_oref, amFit_aref, amFit_onull, amFit_anull, amOptSome, amOptNone, List.cons_append, List.nil_append, true_and, and_true, true_implies, not_true_eq_false, not_false_eq_true, false_implies, and_self, Nat.add_zero, Nat.zero_add, ne_eq, Prod.mk.injEq, amC01_0, amC01_1, amC01_nb, amNb0, amNb1, amTcpI_d, Nat.reduceLeDiff, Nat.reduceAdd, Nat.reduceSub, Nat.reduceEqDiff, Nat.le_refl, amN0le, h1, amLeI, amLtI, amEqI, amLe0, amGt0, amEq0, amNotPosI, amGe0, amVI, amCl_nI, amAdd, amSub, amMul, sn]
    exact amRet.of (by decide) (by decide) key
  · have c' : (n = cap) = False := eq_false c
    refine goJ11_copyOfRange hF 60 ?_
    simp (disch := omega) only [wJ11_copyOfRange_0, uJ11_copyOfRange_0, wJ11_copyOfRange_1, wJ11_copyOfRange_4, wJ11_copyOfRange_5, wJ11_copyOfRange_6, wJ11_copyOfRange_7, wJ11_copyOfRange_10, wJ11_copyOfRange_11, wJ11_copyOfRange_12, wJ11_copyOfRange_13, wJ11_copyOfRange_16, uJ11_copyOfRange_16, wJ11_copyOfRange_17, wJ11_copyOfRange_18, wJ11_copyOfRange_21, wJ11_copyOfRange_24, amSI_1, amSI_2, amSI_3, amSI_s, amU_at, amIsR_ref, amIsR_null, amIsR_rf, amRf_some, amRf_none, amClr_int, amClr_ref, amClr_null, amClr_long, amClr_ra, amClr_rf, amFit_int, amFit_oref, amFit_aref, amFit_onull, amFit_anull, amOptSome, amOptNone, List.cons_append, List.nil_append, true_and, and_true, true_implies, not_true_eq_false, not_false_eq_true, false_implies, and_self, Nat.add_zero, Nat.zero_add, ne_eq, Prod.mk.injEq, amC01_0, amC01_1, amC01_nb, amNb0, amNb1, amTcpI_d, Nat.reduceLeDiff, Nat.reduceAdd, Nat.reduceSub, Nat.reduceEqDiff, Nat.le_refl, amN0le, h1, amLeI, amLtI, amEqI, amLe0, amGt0, amEq0, amNotPosI, amGe0, amVI, amCl_nI, amAdd, amSub, amMul, c']
    rw [tJ11_copyOfRangeByte_d]
    refine ⟨n, cap, h1, rfl, rfl, nc, c3, an, n24, fun h' q => ?_⟩
    have key := hK h' q
    refine goJ11_copyOfRange hF 60 ?_
    simp (disch := omega) only [wJ11_copyOfRange_0, uJ11_copyOfRange_0, wJ11_copyOfRange_1, wJ11_copyOfRange_4, wJ11_copyOfRange_5, wJ11_copyOfRange_6, wJ11_copyOfRange_7, wJ11_copyOfRange_10, wJ11_copyOfRange_11, wJ11_copyOfRange_12, wJ11_copyOfRange_13, wJ11_copyOfRange_16, uJ11_copyOfRange_16, wJ11_copyOfRange_17, wJ11_copyOfRange_18, wJ11_copyOfRange_21, wJ11_copyOfRange_24, amSI_1, amSI_2, amSI_3, amSI_s, amU_at, amIsR_ref, amIsR_null, amIsR_rf, amRf_some, amRf_none, amClr_int, amClr_ref, amClr_null, amClr_long, amClr_ra, amClr_rf, amFit_int, amFit_oref, amFit_aref, amFit_onull, amFit_anull, amOptSome, amOptNone, List.cons_append, List.nil_append, true_and, and_true, true_implies, not_true_eq_false, not_false_eq_true, false_implies, and_self, Nat.add_zero, Nat.zero_add, ne_eq, Prod.mk.injEq, amC01_0, amC01_1, amC01_nb, amNb0, amNb1, amTcpI_d, Nat.reduceLeDiff, Nat.reduceAdd, Nat.reduceSub, Nat.reduceEqDiff, Nat.le_refl, amN0le, h1, amLeI, amLtI, amEqI, amLe0, amGt0, amEq0, amNotPosI, amGe0, amVI, amCl_nI, amAdd, amSub, amMul]
    exact amRet.of (by decide) (by decide) key
theorem tJ11_copyOfRange_d {a : Nat} {f0 t0 : Int32} {h : amH} {K : Option Value → amH → Prop} : tJ11_copyOfRange [.ref a, .int f0, .int t0] h K = ∃ n cap : Nat, h.1 a = (2, cap) ∧ f0 = nI 0 ∧ t0 = nI n ∧ n ≤ cap ∧ cap ≤ 302 ∧ (a : Nat) < h.2.2.2.2 ∧ (24 : Nat) ≤ a ∧ 24 ≤ h.2.2.2.2 ∧ ∀ h', bytesOf h h' a n → K (some (.ref h.2.2.2.2)) h' := rfl
/-- a string made: nothing else has changed -/
def strOf (h h' : amH) (s : Nat) (t : List Nat) : Prop := h.2.2.2.2 ≤ h'.2.2.2.2 ∧ (∀ i, i < h.2.2.2.2 → i ≠ s → amSame h h' i) ∧ StIs h' s t ∧ h'.2.1 s 2 = nI 0 ∧ h'.2.1 s 3 = nI 0
def tJ6_init_2 : amT := fun as h K => match as with
  | [.ref s, .ref b, .null] => ∃ (n0 : Nat) (t : List Nat), SbAt h n0 b t ∧ h.1 s = (0, 7) ∧ (24 : Nat) ≤ s ∧ (s : Nat) < h.2.2.2.2 ∧ h.2.1 s 2 = nI 0 ∧ h.2.1 s 3 = nI 0 ∧ ∀ h', strOf h h' s t → K none h'
  | _ => False
/-! java/lang/String.<init>(Ljava/lang/AbstractStringBuilder;Ljava/lang/Void;)V -/
def kJ6_init_2 : Nat → Bool := fun pc => pc == 35
def rJ6_init_2 : List (Nat × amS) := [(1, 1, 0, 0, amIsRef (fun _ h K => K none h)), (5, 1, 0, 0, (amRecv 8 tJ4_getValue)), (10, 1, 0, 0, (amRecv 8 tJ5_length)), (16, 1, 0, 0, (amRecv 8 tJ4_isLatin1)), (24, 2, 0, 0, amTput 7 1), (32, 3, 1, 400, tJ11_copyOfRange), (35, 2, 0, 0, amTput 7 0)]
def eJ6_init_2 (ret : Option Value → amH → Nat → Nat → Prop) (F : amX) : Nat → amX := amWp cJ6_init_2 kJ6_init_2 (amLk rJ6_init_2) none 1 400 ret F
def sJ6_init_2 (ret : Option Value → amH → Nat → Nat → Prop) (F : amX) : Nat → amX := amWs cJ6_init_2 kJ6_init_2 (amLk rJ6_init_2) none 1 400 ret F
theorem wJ6_init_2_0 {ret F n h k z} {v0 v1 v2 v3 v4 st} : eJ6_init_2 ret F (n + 1) 0 [v0, v1, v2, v3, v4] (st) h k z = (amIsR v0 ∧ eJ6_init_2 ret F n 1 [v0, v1, v2, v3, v4] (v0 :: st) h k z) := (amWp_dec rfl dJ6_init_2_0 rfl).trans rfl
theorem uJ6_init_2_0 {ret F n h k z} {v0 v1 v2 v3 v4 st} : sJ6_init_2 ret F n 0 [v0, v1, v2, v3, v4] (st) h k z = (amIsR v0 ∧ eJ6_init_2 ret F n 1 [v0, v1, v2, v3, v4] (v0 :: st) h k z) := (amWs_dec dJ6_init_2_0 rfl).trans rfl
theorem wJ6_init_2_1 {ret F n h k z} {v0 v1 v2 v3 v4 x0} : eJ6_init_2 ret F (n + 1) 1 [v0, v1, v2, v3, v4] (.ref x0 :: []) h k z = (k + 0 ≤ 1 ∧ z + 0 ≤ 400 ∧ eJ6_init_2 ret F n 4 [v0, v1, v2, v3, v4] ([]) h (k + 0) (z + 0)) := (amWp_dec rfl dJ6_init_2_1 rfl).trans (amS2 (Nat.le_of_ble_eq_true rfl) (Nat.le_of_ble_eq_true rfl))
theorem wJ6_init_2_4 {ret F n h k z} {v0 v1 v2 v3 v4 st} : eJ6_init_2 ret F (n + 1) 4 [v0, v1, v2, v3, v4] (st) h k z = (amIsR v1 ∧ eJ6_init_2 ret F n 5 [v0, v1, v2, v3, v4] (v1 :: st) h k z) := (amWp_dec rfl dJ6_init_2_4 rfl).trans rfl
theorem wJ6_init_2_5 {ret F n h k z} {v0 v1 v2 v3 v4 x0} : eJ6_init_2 ret F (n + 1) 5 [v0, v1, v2, v3, v4] (.ref x0 :: []) h k z = (k + 0 ≤ 1 ∧ z + 0 ≤ 400 ∧ h.1 x0 = (0, 8) ∧ tJ4_getValue [.ref x0] h (fun v h => eJ6_init_2 ret F n 8 [v0, v1, v2, v3, v4] (v.toList ++ ([])) h (k + 0) (z + 0))) := (amWp_dec rfl dJ6_init_2_5 rfl).trans (amS2 (Nat.le_of_ble_eq_true rfl) (Nat.le_of_ble_eq_true rfl))
theorem wJ6_init_2_8 {ret F n h k z} {v0 v1 v2 v3 v4 w st} : eJ6_init_2 ret F (n + 1) 8 [v0, v1, v2, v3, v4] (w :: st) h k z = (amIsR w ∧ eJ6_init_2 ret F n 9 [v0, v1, amClr v2, w, v4] (st) h k z) := (amWp_dec rfl dJ6_init_2_8 rfl).trans (amTrue2 (Nat.le_of_ble_eq_true rfl))
theorem wJ6_init_2_9 {ret F n h k z} {v0 v1 v2 v3 v4 st} : eJ6_init_2 ret F (n + 1) 9 [v0, v1, v2, v3, v4] (st) h k z = (amIsR v1 ∧ eJ6_init_2 ret F n 10 [v0, v1, v2, v3, v4] (v1 :: st) h k z) := (amWp_dec rfl dJ6_init_2_9 rfl).trans rfl
theorem wJ6_init_2_10 {ret F n h k z} {v0 v1 v2 v3 v4 x0} : eJ6_init_2 ret F (n + 1) 10 [v0, v1, v2, v3, v4] (.ref x0 :: []) h k z = (k + 0 ≤ 1 ∧ z + 0 ≤ 400 ∧ h.1 x0 = (0, 8) ∧ tJ5_length [.ref x0] h (fun v h => eJ6_init_2 ret F n 13 [v0, v1, v2, v3, v4] (v.toList ++ ([])) h (k + 0) (z + 0))) := (amWp_dec rfl dJ6_init_2_10 rfl).trans (amS2 (Nat.le_of_ble_eq_true rfl) (Nat.le_of_ble_eq_true rfl))
theorem wJ6_init_2_13 {ret F n h k z} {v0 v1 v2 v3 v4 st x} : eJ6_init_2 ret F (n + 1) 13 [v0, v1, v2, v3, v4] (.int x :: st) h k z = (eJ6_init_2 ret F n 15 [v0, v1, v2, amClr v3, .int x] (st) h k z) := (amWp_dec rfl dJ6_init_2_13 rfl).trans (amTrue (Nat.le_of_ble_eq_true rfl))
theorem wJ6_init_2_15 {ret F n h k z} {v0 v1 v2 v3 v4 st} : eJ6_init_2 ret F (n + 1) 15 [v0, v1, v2, v3, v4] (st) h k z = (amIsR v1 ∧ eJ6_init_2 ret F n 16 [v0, v1, v2, v3, v4] (v1 :: st) h k z) := (amWp_dec rfl dJ6_init_2_15 rfl).trans rfl
theorem wJ6_init_2_16 {ret F n h k z} {v0 v1 v2 v3 v4 x0} : eJ6_init_2 ret F (n + 1) 16 [v0, v1, v2, v3, v4] (.ref x0 :: []) h k z = (k + 0 ≤ 1 ∧ z + 0 ≤ 400 ∧ h.1 x0 = (0, 8) ∧ tJ4_isLatin1 [.ref x0] h (fun v h => eJ6_init_2 ret F n 19 [v0, v1, v2, v3, v4] (v.toList ++ ([])) h (k + 0) (z + 0))) := (amWp_dec rfl dJ6_init_2_16 rfl).trans (amS2 (Nat.le_of_ble_eq_true rfl) (Nat.le_of_ble_eq_true rfl))
theorem wJ6_init_2_19 {ret F n h k z} {v0 v1 v2 v3 v4 st x} : eJ6_init_2 ret F (n + 1) 19 [v0, v1, v2, v3, v4] (.int x :: st) h k z = ((x = 0 → eJ6_init_2 ret F n 41 [v0, v1, v2, v3, v4] (st) h k z) ∧ (¬ x = 0 → eJ6_init_2 ret F n 22 [v0, v1, v2, v3, v4] (st) h k z)) := (amWp_dec rfl dJ6_init_2_19 rfl).trans rfl
theorem wJ6_init_2_22 {ret F n h k z} {v0 v1 v2 v3 v4 st} : eJ6_init_2 ret F (n + 1) 22 [v0, v1, v2, v3, v4] (st) h k z = (amIsR v0 ∧ eJ6_init_2 ret F n 23 [v0, v1, v2, v3, v4] (v0 :: st) h k z) := (amWp_dec rfl dJ6_init_2_22 rfl).trans rfl
theorem wJ6_init_2_23 {ret F n h k z} {v0 v1 v2 v3 v4 st} : eJ6_init_2 ret F (n + 1) 23 [v0, v1, v2, v3, v4] (st) h k z = (eJ6_init_2 ret F n 24 [v0, v1, v2, v3, v4] (.int (nI 0) :: st) h k z) := (amWp_dec rfl dJ6_init_2_23 rfl).trans rfl
theorem wJ6_init_2_24 {ret F n h k z} {v0 v1 v2 v3 v4 x a} : eJ6_init_2 ret F (n + 1) 24 [v0, v1, v2, v3, v4] (.int x :: .ref a :: []) h k z = (k + 0 ≤ 1 ∧ z + 0 ≤ 400 ∧ h.1 a = (0, 7) ∧ amN0 ≤ a ∧ amFit .byte (.int x) ∧ eJ6_init_2 ret F n 27 [v0, v1, v2, v3, v4] ([]) (amSI h (amU h.2.1 a 1 x)) (k + 0) (z + 0)) := (amWp_dec rfl dJ6_init_2_24 rfl).trans (amS2 (Nat.le_of_ble_eq_true rfl) (Nat.le_of_ble_eq_true rfl))
theorem wJ6_init_2_27 {ret F n h k z} {v0 v1 v2 v3 v4 st} : eJ6_init_2 ret F (n + 1) 27 [v0, v1, v2, v3, v4] (st) h k z = (amIsR v0 ∧ eJ6_init_2 ret F n 28 [v0, v1, v2, v3, v4] (v0 :: st) h k z) := (amWp_dec rfl dJ6_init_2_27 rfl).trans rfl
theorem wJ6_init_2_28 {ret F n h k z} {v0 v1 v2 v3 v4 st} : eJ6_init_2 ret F (n + 1) 28 [v0, v1, v2, v3, v4] (st) h k z = (amIsR v3 ∧ eJ6_init_2 ret F n 29 [v0, v1, v2, v3, v4] (v3 :: st) h k z) := (amWp_dec rfl dJ6_init_2_28 rfl).trans rfl
theorem wJ6_init_2_29 {ret F n h k z} {v0 v1 v2 v3 v4 st} : eJ6_init_2 ret F (n + 1) 29 [v0, v1, v2, v3, v4] (st) h k z = (eJ6_init_2 ret F n 30 [v0, v1, v2, v3, v4] (.int (nI 0) :: st) h k z) := (amWp_dec rfl dJ6_init_2_29 rfl).trans rfl
theorem wJ6_init_2_30 {ret F n h k z} {v0 v1 v2 v3 st x} : eJ6_init_2 ret F (n + 1) 30 [v0, v1, v2, v3, .int x] (st) h k z = (eJ6_init_2 ret F n 32 [v0, v1, v2, v3, .int x] (.int x :: st) h k z) := (amWp_dec rfl dJ6_init_2_30 rfl).trans rfl
theorem wJ6_init_2_32 {ret F n h k z} {v0 v1 v2 v3 v4 x2 x1 x0 r0} : eJ6_init_2 ret F (n + 1) 32 [v0, v1, v2, v3, v4] (.int x2 :: .int x1 :: .ref x0 :: r0 :: []) h k z = (k + 1 ≤ 1 ∧ z + 400 ≤ 400 ∧ tJ11_copyOfRange [.ref x0, .int x1, .int x2] h (fun v h => eJ6_init_2 ret F n 35 [v0, v1, v2, v3, v4] (v.toList ++ (r0 :: [])) h (k + 1) (z + 400))) := (amWp_dec rfl dJ6_init_2_32 rfl).trans (amS2 (Nat.le_of_ble_eq_true rfl) (Nat.le_of_ble_eq_true rfl))
theorem wJ6_init_2_35 {ret F n ls st h k z} : eJ6_init_2 ret F (n + 1) 35 ls st h k z = F 35 ls st h k z := amWp_cut rfl
theorem uJ6_init_2_35 {ret F n h k z} {v0 v1 v2 v3 v4 w a} : sJ6_init_2 ret F n 35 [v0, v1, v2, v3, v4] (w :: .ref a :: []) h k z = (k + 0 ≤ 1 ∧ z + 0 ≤ 400 ∧ h.1 a = (0, 7) ∧ amN0 ≤ a ∧ amFit (.array .byte) w ∧ eJ6_init_2 ret F n 38 [v0, v1, v2, v3, v4] ([]) (amWr h a 0 w) (k + 0) (z + 0)) := (amWs_dec dJ6_init_2_35 rfl).trans (amS2 (Nat.le_of_ble_eq_true rfl) (Nat.le_of_ble_eq_true rfl))
theorem wJ6_init_2_38 {ret F n h k z} {v0 v1 v2 v3 v4 st} : eJ6_init_2 ret F (n + 1) 38 [v0, v1, v2, v3, v4] (st) h k z = (eJ6_init_2 ret F n 97 [v0, v1, v2, v3, v4] (st) h k z) := (amWp_dec rfl dJ6_init_2_38 rfl).trans rfl
theorem wJ6_init_2_97 {ret F n h k z} {v0 v1 v2 v3 v4} : eJ6_init_2 ret F (n + 1) 97 [v0, v1, v2, v3, v4] ([]) h k z = (ret none h k z) := (amWp_dec rfl dJ6_init_2_97 rfl).trans (amTrue rfl)
theorem evJ6_init_2 (l : Launch) (G : amG) : ∀ pc S i sz, amLk rJ6_init_2 pc = some S → decode cJ6_init_2 pc = .ok (i, sz) → amSiteP pc G l yJ6_init_2.cls yJ6_init_2.name yJ6_init_2.desc (amRm 4 1 400) i sz S.1 S.2.1 S.2.2.1 S.2.2.2 := amLk_ok (by
  refine List.forall_mem_cons.mpr ⟨⟨_, _, dJ6_init_2_1, amSite.P (amSiteO rfl (by decide) q796 q121 q122)⟩, ?_⟩
  refine List.forall_mem_cons.mpr ⟨⟨_, _, dJ6_init_2_5, amSite.P (amSiteU (C := RJ5) (metJ4_getValue l G) rfl (by decide) (by decide) q797 q799 (Or.inl q800) q798 q100 q801 ⟨_, rfl, rfl⟩ ⟨by decide +kernel, by decide +kernel, by decide +kernel⟩)⟩, ?_⟩
  refine List.forall_mem_cons.mpr ⟨⟨_, _, dJ6_init_2_10, amSite.P (amSiteUO (C := RJ5) (metJ5_length l G) rfl (by decide) (by decide) q802 q804 q805 q806 q101 q807 q803 q809 ⟨_, rfl, rfl⟩ ⟨by decide +kernel, by decide +kernel, by decide +kernel⟩)⟩, ?_⟩
  refine List.forall_mem_cons.mpr ⟨⟨_, _, dJ6_init_2_16, amSite.P (amSiteU (C := RJ5) (metJ4_isLatin1 l G) rfl (by decide) (by decide) q810 q682 (Or.inl q683) q681 q100 q684 ⟨_, rfl, rfl⟩ ⟨by decide +kernel, by decide +kernel, by decide +kernel⟩)⟩, ?_⟩
  refine List.forall_mem_cons.mpr ⟨⟨_, _, dJ6_init_2_24, amSite.P (amSitePutF ⟨_, rfl, by decide, Or.inl q834⟩ (fun q h => by cases h; rfl))⟩, ?_⟩
  refine List.forall_mem_cons.mpr ⟨⟨_, _, dJ6_init_2_32, amSite.P (amSiteS (metJ11_copyOfRange l G) rfl (by decide) (by decide) (lw_S q811 q812 q107 q813) ⟨by decide +kernel, by decide +kernel, by decide +kernel⟩)⟩, ?_⟩
  refine List.forall_mem_cons.mpr ⟨⟨_, _, dJ6_init_2_35, amSite.P (amSitePutF ⟨_, rfl, by decide, Or.inl q833⟩ (fun q h => by cases h; rfl))⟩, ?_⟩
  exact fun _ h => absurd h List.not_mem_nil)
theorem goJ6_init_2 {ret F} (hF : amCld cJ6_init_2 kJ6_init_2 (amLk rJ6_init_2) none 1 400 ret F) (n : Nat) {pc ls st h k z} (q : sJ6_init_2 ret F n pc ls st h k z) : F pc ls st h k z := hF.1 n pc ls st h k z q
theorem metJ6_init_2 (l : Launch) (G : amG) : amMet l G yJ6_init_2 (ws_ yJ6_init_2 cJ6_init_2 5 none) 4 1 400 tJ6_init_2 := by
  refine amMet_of (cut := kJ6_init_2) (by decide +kernel) (evJ6_init_2 l G) ?_
  intro as h K hT
  match as, hT with
  | [.ref s, .ref b, .null], ⟨n0, t, ⟨v, cap, n24, nb, nv, bn, vn, hV⟩, h1, s24, sn, z2, z3, hK⟩ =>
  refine ⟨Nat.le_of_ble_eq_true rfl, fun F hF => ?_⟩
  show F 0 [.ref s, .ref b, .null, .retAddr 0, .retAddr 0] [] h 0 0
  obtain ⟨s, rfl⟩ : ∃ i : Nat, i = s := ⟨_, rfl⟩
  obtain ⟨b, rfl⟩ : ∃ i : Nat, i = b := ⟨_, rfl⟩
  have s24 : (24 : Nat) ≤ s := s24
  have sn : (s : Nat) < h.2.2.2.2 := sn
  have hV' := hV
  obtain ⟨c1, c2, c3, c4, c5, c6, c7, c8, c9⟩ := hV'
  have s24' : (amN0 ≤ s) = True := eq_true (show 24 ≤ s from s24)
  have sb : s ≠ b := fun e => by rw [e, c1] at h1; exact absurd (congrArg Prod.snd h1) (by decide)
  have sv : s ≠ v := fun e => by rw [e, c5] at h1; exact absurd (congrArg Prod.fst h1) (by decide : (2 : Nat) ≠ 0)
  refine goJ6_init_2 hF 60 ?_
  simp (disch := omega) only [wJ6_init_2_0, uJ6_init_2_0, wJ6_init_2_1, wJ6_init_2_4, wJ6_init_2_5, wJ6_init_2_8, wJ6_init_2_9, wJ6_init_2_10, wJ6_init_2_13, wJ6_init_2_15, wJ6_init_2_16, wJ6_init_2_19, wJ6_init_2_22, wJ6_init_2_23, wJ6_init_2_24, wJ6_init_2_27, wJ6_init_2_28, wJ6_init_2_29, wJ6_init_2_30, wJ6_init_2_32, wJ6_init_2_35, uJ6_init_2_35, wJ6_init_2_38, wJ6_init_2_97, amSI_1, amSI_2, amSI_3, amSI_s, amU_at, amIsR_ref, amIsR_null, amIsR_rf, amRf_some, amRf_none, amClr_int, amClr_ref, amClr_null, amClr_long, amClr_ra, amClr_rf, amFit_int, amFit_oref, amFit_aref, amFit_onull, amFit_anull, amOptSome, amOptNone, List.cons_append, List.nil_append, true_and, and_true, true_implies, not_true_eq_false, not_false_eq_true, false_implies, and_self, Nat.add_zero, Nat.zero_add, ne_eq, Prod.mk.injEq, amC01_0, amC01_1, amC01_nb, amNb0, amNb1, amTcpI_d, Nat.reduceLeDiff, Nat.reduceAdd, Nat.reduceSub, Nat.reduceEqDiff, Nat.le_refl, amN0le, amLeI, amLtI, amEqI, amLe0, amGt0, amEq0, amNotPosI, amGe0, amVI, amCl_nI, amAdd, amSub, amMul, h1, c1, c2, c3, c4, s24', tJ4_getValue_d, tJ5_length_d, tJ4_isLatin1_d, amFitB0, amU_ne]
  refine ⟨v, rfl, t.length, cap, c5, rfl, rfl, c6, c7, vn, (show (24 : Nat) ≤ v by omega), (show 24 ≤ h.2.2.2.2 by omega), fun h' q => ?_⟩
  obtain ⟨q1, q2, q3, q4⟩ := q
  have q1 : h'.2.2.2.2 = h.2.2.2.2 + 1 := q1
  have q2 : ∀ i, i < h.2.2.2.2 → amSame (amSI h (amU h.2.1 s 1 (nI 0))) h' i := q2
  have q4 : ∀ j, j < t.length → h'.2.1 h.2.2.2.2 j = h.2.1 v j := fun j hj => (q4 j hj).trans (amU_ne (Ne.symm sv))
  have s1 : h'.1 s = (0, 7) := by rw [(q2 s sn).1]; exact h1
  have ms : h'.2.1 s = amU h.2.1 s 1 (nI 0) s := (q2 s sn).2.1
  have w1 : ∀ i, i ≠ s → amSame h' (amWr h' s 0 (.ref h.2.2.2.2)) i := fun i hi => amWr_same hi
  have key := hK (amWr h' s 0 (.ref h.2.2.2.2)) ⟨by show _ ≤ h'.2.2.2.2; omega, fun i hi his => ?_, ⟨s1, by show s < h'.2.2.2.2; omega, h.2.2.2.2, by show _ < h'.2.2.2.2; omega, by simp [amWr, va_up], ?_, q3, fun i hi => ?_, c9, by omega⟩, ?_, ?_⟩
  · refine goJ6_init_2 hF 60 ?_
    simp (disch := omega) only [wJ6_init_2_0, uJ6_init_2_0, wJ6_init_2_1, wJ6_init_2_4, wJ6_init_2_5, wJ6_init_2_8, wJ6_init_2_9, wJ6_init_2_10, wJ6_init_2_13, wJ6_init_2_15, wJ6_init_2_16, wJ6_init_2_19, wJ6_init_2_22, wJ6_init_2_23, wJ6_init_2_24, wJ6_init_2_27, wJ6_init_2_28, wJ6_init_2_29, wJ6_init_2_30, wJ6_init_2_32, wJ6_init_2_35, uJ6_init_2_35, wJ6_init_2_38, wJ6_init_2_97, amSI_1, amSI_2, amSI_3, amSI_s, amU_at, amIsR_ref, amIsR_null, amIsR_rf, amRf_some, amRf_none, amClr_int, amClr_ref, amClr_null, amClr_long, amClr_ra, amClr_rf, amFit_int, amFit_oref, amFit_aref, amFit_onull, amFit_anull, amOptSome, amOptNone, List.cons_append, List.nil_append, true_and, and_true, true_implies, not_true_eq_false, not_false_eq_true, false_implies, and_self, Nat.add_zero, Nat.zero_add, ne_eq, Prod.mk.injEq, amC01_0, amC01_1, amC01_nb, amNb0, amNb1, amTcpI_d, Nat.reduceLeDiff, Nat.reduceAdd, Nat.reduceSub, Nat.reduceEqDiff, Nat.le_refl, amN0le, s1, s24']
    exact amRet.of (by decide) (by decide) key
  · have w0 : amSame h (amSI h (amU h.2.1 s 1 (nI 0))) i := ⟨rfl, amU_neR his, rfl, rfl⟩
    exact (w0.tr (q2 i hi)).tr (w1 i his)
  · show h'.2.1 s 1 = nI 0
    rw [ms, amU_at]
  · show h'.2.1 h.2.2.2.2 i = _
    rw [q4 i hi]
    exact c8 i hi
  · show h'.2.1 s 2 = nI 0
    rw [ms, amU_nj (by decide)]
    exact z2
  · show h'.2.1 s 3 = nI 0
    rw [ms, amU_nj (by decide)]
    exact z3
theorem tJ6_init_2_d {s b : Nat} {h : amH} {K : Option Value → amH → Prop} : tJ6_init_2 [.ref s, .ref b, .null] h K = ∃ (n0 : Nat) (t : List Nat), SbAt h n0 b t ∧ h.1 s = (0, 7) ∧ (24 : Nat) ≤ s ∧ (s : Nat) < h.2.2.2.2 ∧ h.2.1 s 2 = nI 0 ∧ h.2.1 s 3 = nI 0 ∧ ∀ h', strOf h h' s t → K none h' := rfl
def tJ6_init : amT := fun as h K => match as with
  | [.ref s, .ref b] => ∃ (n0 : Nat) (t : List Nat), SbAt h n0 b t ∧ h.1 s = (0, 7) ∧ (24 : Nat) ≤ s ∧ (s : Nat) < h.2.2.2.2 ∧ h.2.1 s 2 = nI 0 ∧ h.2.1 s 3 = nI 0 ∧ ∀ h', strOf h h' s t → K none h'
  | _ => False
/-! java/lang/String.<init>(Ljava/lang/StringBuilder;)V -/
def kJ6_init : Nat → Bool := fun pc => pc == 6
def rJ6_init : List (Nat × amS) := [(3, 3, 1, 400, (amIsRef tJ6_init_2))]
def eJ6_init (ret : Option Value → amH → Nat → Nat → Prop) (F : amX) : Nat → amX := amWp cJ6_init kJ6_init (amLk rJ6_init) none 1 400 ret F
def sJ6_init (ret : Option Value → amH → Nat → Nat → Prop) (F : amX) : Nat → amX := amWs cJ6_init kJ6_init (amLk rJ6_init) none 1 400 ret F
theorem wJ6_init_0 {ret F n h k z} {v0 v1 st} : eJ6_init ret F (n + 1) 0 [v0, v1] (st) h k z = (amIsR v0 ∧ eJ6_init ret F n 1 [v0, v1] (v0 :: st) h k z) := (amWp_dec rfl dJ6_init_0 rfl).trans rfl
theorem uJ6_init_0 {ret F n h k z} {v0 v1 st} : sJ6_init ret F n 0 [v0, v1] (st) h k z = (amIsR v0 ∧ eJ6_init ret F n 1 [v0, v1] (v0 :: st) h k z) := (amWs_dec dJ6_init_0 rfl).trans rfl
theorem wJ6_init_1 {ret F n h k z} {v0 v1 st} : eJ6_init ret F (n + 1) 1 [v0, v1] (st) h k z = (amIsR v1 ∧ eJ6_init ret F n 2 [v0, v1] (v1 :: st) h k z) := (amWp_dec rfl dJ6_init_1 rfl).trans rfl
theorem wJ6_init_2 {ret F n h k z} {v0 v1 st} : eJ6_init ret F (n + 1) 2 [v0, v1] (st) h k z = (eJ6_init ret F n 3 [v0, v1] (.null :: st) h k z) := (amWp_dec rfl dJ6_init_2 rfl).trans rfl
theorem wJ6_init_3 {ret F n h k z} {v0 v1 w2 x1 x0} : eJ6_init ret F (n + 1) 3 [v0, v1] (w2 :: .ref x1 :: .ref x0 :: []) h k z = (k + 1 ≤ 1 ∧ z + 400 ≤ 400 ∧ tJ6_init_2 [.ref x0, .ref x1, w2] h (fun v h => eJ6_init ret F n 6 [v0, v1] (v.toList ++ ([])) h (k + 1) (z + 400))) := (amWp_dec rfl dJ6_init_3 rfl).trans (amS2 (Nat.le_of_ble_eq_true rfl) (Nat.le_of_ble_eq_true rfl))
theorem wJ6_init_6 {ret F n ls st h k z} : eJ6_init ret F (n + 1) 6 ls st h k z = F 6 ls st h k z := amWp_cut rfl
theorem uJ6_init_6 {ret F n h k z} {v0 v1} : sJ6_init ret F n 6 [v0, v1] ([]) h k z = (ret none h k z) := (amWs_dec dJ6_init_6 rfl).trans (amTrue rfl)
theorem evJ6_init (l : Launch) (G : amG) : ∀ pc S i sz, amLk rJ6_init pc = some S → decode cJ6_init pc = .ok (i, sz) → amSiteP pc G l yJ6_init.cls yJ6_init.name yJ6_init.desc (amRm 5 1 400) i sz S.1 S.2.1 S.2.2.1 S.2.2.2 := amLk_ok (by
  refine List.forall_mem_cons.mpr ⟨⟨_, _, dJ6_init_3, amSite.P (amSiteI (metJ6_init_2 l G) rfl (by decide) (by decide) q795 q102 q793 q794 ⟨rfl, by decide +kernel, by decide +kernel, by decide +kernel⟩)⟩, ?_⟩
  exact fun _ h => absurd h List.not_mem_nil)
theorem goJ6_init {ret F} (hF : amCld cJ6_init kJ6_init (amLk rJ6_init) none 1 400 ret F) (n : Nat) {pc ls st h k z} (q : sJ6_init ret F n pc ls st h k z) : F pc ls st h k z := hF.1 n pc ls st h k z q
theorem metJ6_init (l : Launch) (G : amG) : amMet l G yJ6_init (ws_ yJ6_init cJ6_init 2 none) 5 1 400 tJ6_init := by
  refine amMet_of (cut := kJ6_init) (by decide +kernel) (evJ6_init l G) ?_
  intro as h K hT
  match as, hT with
  | [.ref s, .ref b], ⟨n0, t, hB, h1, s24, sn, z2, z3, hK⟩ =>
  refine ⟨Nat.le_of_ble_eq_true rfl, fun F hF => ?_⟩
  show F 0 [.ref s, .ref b] [] h 0 0
  obtain ⟨s, rfl⟩ : ∃ i : Nat, i = s := ⟨_, rfl⟩
  obtain ⟨b, rfl⟩ : ∃ i : Nat, i = b := ⟨_, rfl⟩
  refine goJ6_init hF 60 ?_
  simp (disch := omega) only [wJ6_init_0, uJ6_init_0, wJ6_init_1, wJ6_init_2, wJ6_init_3, wJ6_init_6, uJ6_init_6, amSI_1, amSI_2, amSI_3, amSI_s, amU_at, amIsR_ref, amIsR_null, amIsR_rf, amRf_some, amRf_none, amClr_int, amClr_ref, amClr_null, amClr_long, amClr_ra, amClr_rf, amFit_int, amFit_oref, amFit_aref, amFit_onull, amFit_anull, amOptSome, amOptNone, List.cons_append, List.nil_append, true_and, and_true, true_implies, not_true_eq_false, not_false_eq_true, false_implies, and_self, Nat.add_zero, Nat.zero_add, ne_eq, Prod.mk.injEq, amC01_0, amC01_1, amC01_nb, amNb0, amNb1, amTcpI_d, Nat.reduceLeDiff, Nat.reduceAdd, Nat.reduceSub, Nat.reduceEqDiff, Nat.le_refl, amN0le, amLeI, amLtI, amEqI, amLe0, amGt0, amEq0, amNotPosI, amGe0, amVI, amCl_nI, amAdd, amSub, amMul]
  rw [tJ6_init_2_d]
  refine ⟨n0, t, hB, h1, s24, sn, z2, z3, fun h' q => ?_⟩
  have key := hK h' q
  refine goJ6_init hF 60 ?_
  simp (disch := omega) only [wJ6_init_0, uJ6_init_0, wJ6_init_1, wJ6_init_2, wJ6_init_3, wJ6_init_6, uJ6_init_6, amSI_1, amSI_2, amSI_3, amSI_s, amU_at, amIsR_ref, amIsR_null, amIsR_rf, amRf_some, amRf_none, amClr_int, amClr_ref, amClr_null, amClr_long, amClr_ra, amClr_rf, amFit_int, amFit_oref, amFit_aref, amFit_onull, amFit_anull, amOptSome, amOptNone, List.cons_append, List.nil_append, true_and, and_true, true_implies, not_true_eq_false, not_false_eq_true, false_implies, and_self, Nat.add_zero, Nat.zero_add, ne_eq, Prod.mk.injEq, amC01_0, amC01_1, amC01_nb, amNb0, amNb1, amTcpI_d, Nat.reduceLeDiff, Nat.reduceAdd, Nat.reduceSub, Nat.reduceEqDiff, Nat.le_refl, amN0le, amLeI, amLtI, amEqI, amLe0, amGt0, amEq0, amNotPosI, amGe0, amVI, amCl_nI, amAdd, amSub, amMul]
  exact amRet.of (by decide) (by decide) key
theorem tJ6_init_d {s b : Nat} {h : amH} {K : Option Value → amH → Prop} : tJ6_init [.ref s, .ref b] h K = ∃ (n0 : Nat) (t : List Nat), SbAt h n0 b t ∧ h.1 s = (0, 7) ∧ (24 : Nat) ≤ s ∧ (s : Nat) < h.2.2.2.2 ∧ h.2.1 s 2 = nI 0 ∧ h.2.1 s 3 = nI 0 ∧ ∀ h', strOf h h' s t → K none h' := rfl
/-- a new string, nothing old changed -/
def newStr (h h' : amH) (t : List Nat) : Prop := gFr h h' h.2.2.2.2 ∧ StIs h' h.2.2.2.2 t ∧ h'.2.1 h.2.2.2.2 2 = nI 0 ∧ h'.2.1 h.2.2.2.2 3 = nI 0
def tJ5_toString : amT := fun as h K => match as with
  | [.ref b] => ∃ (n0 : Nat) (t : List Nat), SbAt h n0 b t ∧ ∀ h', newStr h h' t → K (some (.ref h.2.2.2.2)) h'
  | _ => False
/-! java/lang/StringBuilder.toString()Ljava/lang/String; -/
def kJ5_toString : Nat → Bool := fun pc => pc == 8
def rJ5_toString : List (Nat × amS) := [(0, 0, 1, 4, amTnew 7), (5, 2, 1, 400, (amIsRef tJ6_init))]
def eJ5_toString (ret : Option Value → amH → Nat → Nat → Prop) (F : amX) : Nat → amX := amWp cJ5_toString kJ5_toString (amLk rJ5_toString) (some (FieldType.object "java/lang/String")) 2 404 ret F
def sJ5_toString (ret : Option Value → amH → Nat → Nat → Prop) (F : amX) : Nat → amX := amWs cJ5_toString kJ5_toString (amLk rJ5_toString) (some (FieldType.object "java/lang/String")) 2 404 ret F
theorem wJ5_toString_0 {ret F n h k z} {v0} : eJ5_toString ret F (n + 1) 0 [v0] ([]) h k z = (k + 1 ≤ 2 ∧ z + 4 ≤ 404 ∧ eJ5_toString ret F n 3 [v0] (.ref h.2.2.2.2 :: []) (amNew h (0, 7)) (k + 1) (z + 4)) := (amWp_dec rfl dJ5_toString_0 rfl).trans (amS2 (Nat.le_of_ble_eq_true rfl) (Nat.le_of_ble_eq_true rfl))
theorem uJ5_toString_0 {ret F n h k z} {v0} : sJ5_toString ret F n 0 [v0] ([]) h k z = (k + 1 ≤ 2 ∧ z + 4 ≤ 404 ∧ eJ5_toString ret F n 3 [v0] (.ref h.2.2.2.2 :: []) (amNew h (0, 7)) (k + 1) (z + 4)) := (amWs_dec dJ5_toString_0 rfl).trans (amS2 (Nat.le_of_ble_eq_true rfl) (Nat.le_of_ble_eq_true rfl))
theorem wJ5_toString_3 {ret F n h k z} {v0 st b} : eJ5_toString ret F (n + 1) 3 [v0] (.ref b :: st) h k z = (eJ5_toString ret F n 4 [v0] (.ref b :: .ref b :: st) h k z) := (amWp_dec rfl dJ5_toString_3 rfl).trans (amTrue rfl)
theorem wJ5_toString_4 {ret F n h k z} {v0 st} : eJ5_toString ret F (n + 1) 4 [v0] (st) h k z = (amIsR v0 ∧ eJ5_toString ret F n 5 [v0] (v0 :: st) h k z) := (amWp_dec rfl dJ5_toString_4 rfl).trans rfl
theorem wJ5_toString_5 {ret F n h k z} {v0 x1 x0 r0} : eJ5_toString ret F (n + 1) 5 [v0] (.ref x1 :: .ref x0 :: r0 :: []) h k z = (k + 1 ≤ 2 ∧ z + 400 ≤ 404 ∧ tJ6_init [.ref x0, .ref x1] h (fun v h => eJ5_toString ret F n 8 [v0] (v.toList ++ (r0 :: [])) h (k + 1) (z + 400))) := (amWp_dec rfl dJ5_toString_5 rfl).trans (amS2 (Nat.le_of_ble_eq_true rfl) (Nat.le_of_ble_eq_true rfl))
theorem wJ5_toString_8 {ret F n ls st h k z} : eJ5_toString ret F (n + 1) 8 ls st h k z = F 8 ls st h k z := amWp_cut rfl
theorem uJ5_toString_8 {ret F n h k z} {v0 w} : sJ5_toString ret F n 8 [v0] ([w]) h k z = (amIsR w ∧ ret (some w) h k z) := (amWs_dec dJ5_toString_8 rfl).trans (amTrue ⟨_, rfl, rfl⟩)
theorem evJ5_toString (l : Launch) (G : amG) : ∀ pc S i sz, amLk rJ5_toString pc = some S → decode cJ5_toString pc = .ok (i, sz) → amSiteP pc G l yJ5_toString.cls yJ5_toString.name yJ5_toString.desc (amRm 6 2 404) i sz S.1 S.2.1 S.2.2.1 S.2.2.2 := amLk_ok (by
  refine List.forall_mem_cons.mpr ⟨⟨_, _, dJ5_toString_0, amSite.P (amSiteNew (ci := 7) (n := 4) (C := "java/lang/String") ⟨_, rfl, rfl, rfl⟩ q788 q789 q102)⟩, ?_⟩
  refine List.forall_mem_cons.mpr ⟨⟨_, _, dJ5_toString_5, amSite.P (amSiteI (metJ6_init l G) rfl (by decide) (by decide) q792 q102 q790 q791 ⟨rfl, by decide +kernel, by decide +kernel, by decide +kernel⟩)⟩, ?_⟩
  exact fun _ h => absurd h List.not_mem_nil)
theorem goJ5_toString {ret F} (hF : amCld cJ5_toString kJ5_toString (amLk rJ5_toString) (some (FieldType.object "java/lang/String")) 2 404 ret F) (n : Nat) {pc ls st h k z} (q : sJ5_toString ret F n pc ls st h k z) : F pc ls st h k z := hF.1 n pc ls st h k z q
theorem metJ5_toString (l : Launch) (G : amG) : amMet l G yJ5_toString (ws_ yJ5_toString cJ5_toString 1 (some (FieldType.object "java/lang/String"))) 6 2 404 tJ5_toString := by
  refine amMet_of (cut := kJ5_toString) (by decide +kernel) (evJ5_toString l G) ?_
  intro as h K hT
  match as, hT with
  | [.ref b], ⟨n0, t, hB, hK⟩ =>
  refine ⟨Nat.le_of_ble_eq_true rfl, fun F hF => ?_⟩
  show F 0 [.ref b] [] h 0 0
  obtain ⟨b, rfl⟩ : ∃ i : Nat, i = b := ⟨_, rfl⟩
  have hB' : SbAt (amNew h (0, 7)) n0 b t := hB.same (n1 := h.2.2.2.2) ⟨Nat.le_succ _, fun i hi => amNew_same hi⟩ (Nat.le_refl _)
  obtain ⟨v, cap, n24, nb, nv, bn, vn, hV⟩ := hB
  refine goJ5_toString hF 60 ?_
  simp (disch := omega) only [wJ5_toString_0, uJ5_toString_0, wJ5_toString_3, wJ5_toString_4, wJ5_toString_5, wJ5_toString_8, uJ5_toString_8, amSI_1, amSI_2, amSI_3, amSI_s, amU_at, amIsR_ref, amIsR_null, amIsR_rf, amRf_some, amRf_none, amClr_int, amClr_ref, amClr_null, amClr_long, amClr_ra, amClr_rf, amFit_int, amFit_oref, amFit_aref, amFit_onull, amFit_anull, amOptSome, amOptNone, List.cons_append, List.nil_append, true_and, and_true, true_implies, not_true_eq_false, not_false_eq_true, false_implies, and_self, Nat.add_zero, Nat.zero_add, ne_eq, Prod.mk.injEq, amC01_0, amC01_1, amC01_nb, amNb0, amNb1, amTcpI_d, Nat.reduceLeDiff, Nat.reduceAdd, Nat.reduceSub, Nat.reduceEqDiff, Nat.le_refl, amN0le, amLeI, amLtI, amEqI, amLe0, amGt0, amEq0, amNotPosI, amGe0, amVI, amCl_nI, amAdd, amSub, amMul]
  rw [tJ6_init_d]
  refine ⟨n0, t, hB', amNew_sh h _, (show 24 ≤ h.2.2.2.2 by omega), Nat.lt_succ_self _, by simp [amNew, va_up]; rfl, by simp [amNew, va_up]; rfl, fun h' q => ?_⟩
  obtain ⟨q1, q2, q3, q4, q5⟩ := q
  have key := hK h' ⟨⟨Nat.le_of_succ_le q1, fun i hi => (amNew_same hi).tr (q2 i (Nat.lt_succ_of_lt hi) (by omega))⟩, q3, q4, q5⟩
  refine goJ5_toString hF 60 ?_
  simp (disch := omega) only [wJ5_toString_0, uJ5_toString_0, wJ5_toString_3, wJ5_toString_4, wJ5_toString_5, wJ5_toString_8, uJ5_toString_8, amSI_1, amSI_2, amSI_3, amSI_s, amU_at, amIsR_ref, amIsR_null, amIsR_rf, amRf_some, amRf_none, amClr_int, amClr_ref, amClr_null, amClr_long, amClr_ra, amClr_rf, amFit_int, amFit_oref, amFit_aref, amFit_onull, amFit_anull, amOptSome, amOptNone, List.cons_append, List.nil_append, true_and, and_true, true_implies, not_true_eq_false, not_false_eq_true, false_implies, and_self, Nat.add_zero, Nat.zero_add, ne_eq, Prod.mk.injEq, amC01_0, amC01_1, amC01_nb, amNb0, amNb1, amTcpI_d, Nat.reduceLeDiff, Nat.reduceAdd, Nat.reduceSub, Nat.reduceEqDiff, Nat.le_refl, amN0le, amLeI, amLtI, amEqI, amLe0, amGt0, amEq0, amNotPosI, amGe0, amVI, amCl_nI, amAdd, amSub, amMul]
  exact amRet.of (by decide) (by decide) key
theorem tJ5_toString_d {b : Nat} {h : amH} {K : Option Value → amH → Prop} : tJ5_toString [.ref b] h K = ∃ (n0 : Nat) (t : List Nat), SbAt h n0 b t ∧ ∀ h', newStr h h' t → K (some (.ref h.2.2.2.2)) h' := rfl
def tJ12_checkIndex : amT := fun as h K => match as with
  | [.int x, .int y, .null] => ∃ i n : Nat, x = nI i ∧ y = nI n ∧ i < n ∧ n ≤ 1000 ∧ K (some (.int (nI i))) h
  | [.int x, .int y, .ref _] => ∃ i n : Nat, x = nI i ∧ y = nI n ∧ i < n ∧ n ≤ 1000 ∧ K (some (.int (nI i))) h
  | _ => False
/-! jdk/internal/util/Preconditions.checkIndex(IILjava/util/function/BiFunction;)I -/
def kJ12_checkIndex : Nat → Bool := fun pc => false
def rJ12_checkIndex : List (Nat × amS) := []
def eJ12_checkIndex (ret : Option Value → amH → Nat → Nat → Prop) (F : amX) : Nat → amX := amWp cJ12_checkIndex kJ12_checkIndex (amLk rJ12_checkIndex) (some .int) 0 0 ret F
def sJ12_checkIndex (ret : Option Value → amH → Nat → Nat → Prop) (F : amX) : Nat → amX := amWs cJ12_checkIndex kJ12_checkIndex (amLk rJ12_checkIndex) (some .int) 0 0 ret F
theorem wJ12_checkIndex_0 {ret F n h} {v1 v2 st x} : eJ12_checkIndex ret F (n + 1) 0 [.int x, v1, v2] (st) h 0 0 = (eJ12_checkIndex ret F n 1 [.int x, v1, v2] (.int x :: st) h 0 0) := (amWp_dec rfl dJ12_checkIndex_0 rfl).trans rfl
theorem uJ12_checkIndex_0 {ret F n h} {v1 v2 st x} : sJ12_checkIndex ret F n 0 [.int x, v1, v2] (st) h 0 0 = (eJ12_checkIndex ret F n 1 [.int x, v1, v2] (.int x :: st) h 0 0) := (amWs_dec dJ12_checkIndex_0 rfl).trans rfl
theorem wJ12_checkIndex_1 {ret F n h} {v0 v1 v2 st x} : eJ12_checkIndex ret F (n + 1) 1 [v0, v1, v2] (.int x :: st) h 0 0 = ((x < 0 → eJ12_checkIndex ret F n 9 [v0, v1, v2] (st) h 0 0) ∧ (¬ x < 0 → eJ12_checkIndex ret F n 4 [v0, v1, v2] (st) h 0 0)) := (amWp_dec rfl dJ12_checkIndex_1 rfl).trans rfl
theorem wJ12_checkIndex_4 {ret F n h} {v1 v2 st x} : eJ12_checkIndex ret F (n + 1) 4 [.int x, v1, v2] (st) h 0 0 = (eJ12_checkIndex ret F n 5 [.int x, v1, v2] (.int x :: st) h 0 0) := (amWp_dec rfl dJ12_checkIndex_4 rfl).trans rfl
theorem wJ12_checkIndex_5 {ret F n h} {v0 v2 st x} : eJ12_checkIndex ret F (n + 1) 5 [v0, .int x, v2] (st) h 0 0 = (eJ12_checkIndex ret F n 6 [v0, .int x, v2] (.int x :: st) h 0 0) := (amWp_dec rfl dJ12_checkIndex_5 rfl).trans rfl
theorem wJ12_checkIndex_6 {ret F n h} {v0 v1 v2 st y x} : eJ12_checkIndex ret F (n + 1) 6 [v0, v1, v2] (.int y :: .int x :: st) h 0 0 = ((x < y → eJ12_checkIndex ret F n 16 [v0, v1, v2] (st) h 0 0) ∧ (¬ x < y → eJ12_checkIndex ret F n 9 [v0, v1, v2] (st) h 0 0)) := (amWp_dec rfl dJ12_checkIndex_6 rfl).trans rfl
theorem wJ12_checkIndex_16 {ret F n h} {v1 v2 st x} : eJ12_checkIndex ret F (n + 1) 16 [.int x, v1, v2] (st) h 0 0 = (eJ12_checkIndex ret F n 17 [.int x, v1, v2] (.int x :: st) h 0 0) := (amWp_dec rfl dJ12_checkIndex_16 rfl).trans rfl
theorem wJ12_checkIndex_17 {ret F n h} {v0 v1 v2 x} : eJ12_checkIndex ret F (n + 1) 17 [v0, v1, v2] ([.int x]) h 0 0 = (ret (some (.int x)) h 0 0) := (amWp_dec rfl dJ12_checkIndex_17 rfl).trans (amTrue ⟨_, rfl, rfl⟩)
theorem evJ12_checkIndex (l : Launch) (G : amG) : ∀ pc S i sz, amLk rJ12_checkIndex pc = some S → decode cJ12_checkIndex pc = .ok (i, sz) → amSiteP pc G l yJ12_checkIndex.cls yJ12_checkIndex.name yJ12_checkIndex.desc (amRm 1 0 0) i sz S.1 S.2.1 S.2.2.1 S.2.2.2 := amLk_ok (by
  exact fun _ h => absurd h List.not_mem_nil)
theorem goJ12_checkIndex {ret F} (hF : amCld cJ12_checkIndex kJ12_checkIndex (amLk rJ12_checkIndex) (some .int) 0 0 ret F) (n : Nat) {pc ls st h k z} (q : sJ12_checkIndex ret F n pc ls st h k z) : F pc ls st h k z := hF.1 n pc ls st h k z q
theorem metJ12_checkIndex (l : Launch) (G : amG) : amMet l G yJ12_checkIndex (ws_ yJ12_checkIndex cJ12_checkIndex 3 (some .int)) 1 0 0 tJ12_checkIndex := by
  refine amMet_of (cut := kJ12_checkIndex) (by decide +kernel) (evJ12_checkIndex l G) ?_
  intro as h K hT
  match as, hT with
  | [.int x, .int y, .null], ⟨i, n, e1, e2, hi, hn, hK⟩ =>
    refine ⟨Nat.le_of_ble_eq_true rfl, fun F hF => ?_⟩
    show F 0 [.int x, .int y, .null] [] h 0 0
    subst e1 e2
    have q : (i < n) = True := eq_true hi
    refine goJ12_checkIndex hF 30 ?_
    simp (disch := omega) only [wJ12_checkIndex_0, uJ12_checkIndex_0, wJ12_checkIndex_1, wJ12_checkIndex_4, wJ12_checkIndex_5, wJ12_checkIndex_6, wJ12_checkIndex_16, wJ12_checkIndex_17, amSI_1, amSI_2, amSI_3, amSI_s, amU_at, amIsR_ref, amIsR_null, amIsR_rf, amRf_some, amRf_none, amClr_int, amClr_ref, amClr_null, amClr_long, amClr_ra, amClr_rf, amFit_int, amFit_oref, amFit_aref, amFit_onull, amFit_anull, amOptSome, amOptNone, List.cons_append, List.nil_append, true_and, and_true, true_implies, not_true_eq_false, not_false_eq_true, false_implies, and_self, Nat.add_zero, Nat.zero_add, ne_eq, Prod.mk.injEq, amC01_0, amC01_1, amC01_nb, amNb0, amNb1, amTcpI_d, Nat.reduceLeDiff, Nat.reduceAdd, Nat.reduceSub, Nat.reduceEqDiff, Nat.le_refl, amN0le, amLeI, amLtI, amEqI, amLe0, amGt0, amEq0, amNotPosI, amGe0, amVI, amCl_nI, amAdd, amSub, amMul, amLtI, q]
    exact amRet.of (by decide) (by decide) hK
  | [.int x, .int y, .ref a], ⟨i, n, e1, e2, hi, hn, hK⟩ =>
    refine ⟨Nat.le_of_ble_eq_true rfl, fun F hF => ?_⟩
    show F 0 [.int x, .int y, .ref a] [] h 0 0
    subst e1 e2
    have q : (i < n) = True := eq_true hi
    refine goJ12_checkIndex hF 30 ?_
    simp (disch := omega) only [wJ12_checkIndex_0, uJ12_checkIndex_0, wJ12_checkIndex_1, wJ12_checkIndex_4, wJ12_checkIndex_5, wJ12_checkIndex_6, wJ12_checkIndex_16, wJ12_checkIndex_17, amSI_1, amSI_2, amSI_3, amSI_s, amU_at, amIsR_ref, amIsR_null, amIsR_rf, amRf_some, amRf_none, amClr_int, amClr_ref, amClr_null, amClr_long, amClr_ra, amClr_rf, amFit_int, amFit_oref, amFit_aref, amFit_onull, amFit_anull, amOptSome, amOptNone, List.cons_append, List.nil_append, true_and, and_true, true_implies, not_true_eq_false, not_false_eq_true, false_implies, and_self, Nat.add_zero, Nat.zero_add, ne_eq, Prod.mk.injEq, amC01_0, amC01_1, amC01_nb, amNb0, amNb1, amTcpI_d, Nat.reduceLeDiff, Nat.reduceAdd, Nat.reduceSub, Nat.reduceEqDiff, Nat.le_refl, amN0le, amLeI, amLtI, amEqI, amLe0, amGt0, amEq0, amNotPosI, amGe0, amVI, amCl_nI, amAdd, amSub, amMul, amLtI, q]
    exact amRet.of (by decide) (by decide) hK
theorem ckN {i n : Nat} {h : amH} {K : Option Value → amH → Prop} (hi : i < n) (hn : n ≤ 1000) (k : K (some (.int (nI i))) h) : tJ12_checkIndex [.int (nI i), .int (nI n), .null] h K := ⟨i, n, rfl, rfl, hi, hn, k⟩
theorem ckR {i n a : Nat} {h : amH} {K : Option Value → amH → Prop} (hi : i < n) (hn : n ≤ 1000) (k : K (some (.int (nI i))) h) : tJ12_checkIndex [.int (nI i), .int (nI n), .ref a] h K := ⟨i, n, rfl, rfl, hi, hn, k⟩
def tJ6_checkIndex : amT := fun as h K => match as with
  | [.int x, .int y] => ∃ i n : Nat, x = nI i ∧ y = nI n ∧ i < n ∧ n ≤ 1000 ∧ K none h
  | _ => False
/-! java/lang/String.checkIndex(II)V -/
def kJ6_checkIndex : Nat → Bool := fun pc => false
def rJ6_checkIndex : List (Nat × amS) := [(2, 0, 0, 0, amTgsx 22), (5, 3, 0, 0, tJ12_checkIndex)]
def eJ6_checkIndex (ret : Option Value → amH → Nat → Nat → Prop) (F : amX) : Nat → amX := amWp cJ6_checkIndex kJ6_checkIndex (amLk rJ6_checkIndex) none 0 0 ret F
def sJ6_checkIndex (ret : Option Value → amH → Nat → Nat → Prop) (F : amX) : Nat → amX := amWs cJ6_checkIndex kJ6_checkIndex (amLk rJ6_checkIndex) none 0 0 ret F
theorem wJ6_checkIndex_0 {ret F n h} {v1 st x} : eJ6_checkIndex ret F (n + 1) 0 [.int x, v1] (st) h 0 0 = (eJ6_checkIndex ret F n 1 [.int x, v1] (.int x :: st) h 0 0) := (amWp_dec rfl dJ6_checkIndex_0 rfl).trans rfl
theorem uJ6_checkIndex_0 {ret F n h} {v1 st x} : sJ6_checkIndex ret F n 0 [.int x, v1] (st) h 0 0 = (eJ6_checkIndex ret F n 1 [.int x, v1] (.int x :: st) h 0 0) := (amWs_dec dJ6_checkIndex_0 rfl).trans rfl
theorem wJ6_checkIndex_1 {ret F n h} {v0 st x} : eJ6_checkIndex ret F (n + 1) 1 [v0, .int x] (st) h 0 0 = (eJ6_checkIndex ret F n 2 [v0, .int x] (.int x :: st) h 0 0) := (amWp_dec rfl dJ6_checkIndex_1 rfl).trans rfl
theorem wJ6_checkIndex_2 {ret F n h} {v0 v1 r0 r1} : eJ6_checkIndex ret F (n + 1) 2 [v0, v1] (r0 :: r1 :: []) h 0 0 = (eJ6_checkIndex ret F n 5 [v0, v1] (.null :: r0 :: r1 :: []) h 0 0 ∧ eJ6_checkIndex ret F n 5 [v0, v1] (.ref 22 :: r0 :: r1 :: []) h 0 0) := (amWp_dec rfl dJ6_checkIndex_2 rfl).trans (amS4 (Nat.le_of_ble_eq_true rfl) (Nat.le_of_ble_eq_true rfl) (Nat.le_of_ble_eq_true rfl) (Nat.le_of_ble_eq_true rfl))
theorem wJ6_checkIndex_5 {ret F n h} {v0 v1 w2 x1 x0} : eJ6_checkIndex ret F (n + 1) 5 [v0, v1] (w2 :: .int x1 :: .int x0 :: []) h 0 0 = (tJ12_checkIndex [.int x0, .int x1, w2] h (fun v h => eJ6_checkIndex ret F n 8 [v0, v1] (v.toList ++ ([])) h 0 0)) := (amWp_dec rfl dJ6_checkIndex_5 rfl).trans (amS4 (Nat.le_of_ble_eq_true rfl) (Nat.le_of_ble_eq_true rfl) (Nat.le_of_ble_eq_true rfl) (Nat.le_of_ble_eq_true rfl))
theorem wJ6_checkIndex_8 {ret F n h} {v0 v1 st x} : eJ6_checkIndex ret F (n + 1) 8 [v0, v1] (.int x :: st) h 0 0 = (eJ6_checkIndex ret F n 9 [v0, v1] (st) h 0 0) := (amWp_dec rfl dJ6_checkIndex_8 rfl).trans (amTrue rfl)
theorem wJ6_checkIndex_9 {ret F n h} {v0 v1} : eJ6_checkIndex ret F (n + 1) 9 [v0, v1] ([]) h 0 0 = (ret none h 0 0) := (amWp_dec rfl dJ6_checkIndex_9 rfl).trans (amTrue rfl)
theorem evJ6_checkIndex (l : Launch) (G : amG) : ∀ pc S i sz, amLk rJ6_checkIndex pc = some S → decode cJ6_checkIndex pc = .ok (i, sz) → amSiteP pc G l yJ6_checkIndex.cls yJ6_checkIndex.name yJ6_checkIndex.desc (amRm 2 0 0) i sz S.1 S.2.1 S.2.2.1 S.2.2.2 := amLk_ok (by
  refine List.forall_mem_cons.mpr ⟨⟨_, _, dJ6_checkIndex_2, amSite.P (amSiteGx (List.mem_of_getElem? (i := 2) rfl) q697)⟩, ?_⟩
  refine List.forall_mem_cons.mpr ⟨⟨_, _, dJ6_checkIndex_5, amSite.P (amSiteS (metJ12_checkIndex l G) rfl (by decide) (by decide) (lw_S q863 q864 q108 q865) ⟨by decide +kernel, by decide +kernel, by decide +kernel⟩)⟩, ?_⟩
  exact fun _ h => absurd h List.not_mem_nil)
theorem goJ6_checkIndex {ret F} (hF : amCld cJ6_checkIndex kJ6_checkIndex (amLk rJ6_checkIndex) none 0 0 ret F) (n : Nat) {pc ls st h k z} (q : sJ6_checkIndex ret F n pc ls st h k z) : F pc ls st h k z := hF.1 n pc ls st h k z q
theorem metJ6_checkIndex (l : Launch) (G : amG) : amMet l G yJ6_checkIndex (ws_ yJ6_checkIndex cJ6_checkIndex 2 none) 2 0 0 tJ6_checkIndex := by
  refine amMet_of (cut := kJ6_checkIndex) (by decide +kernel) (evJ6_checkIndex l G) ?_
  intro as h K hT
  match as, hT with
  | [.int x, .int y], ⟨i, n, e1, e2, hi, hn, hK⟩ =>
  refine ⟨Nat.le_of_ble_eq_true rfl, fun F hF => ?_⟩
  show F 0 [.int x, .int y] [] h 0 0
  subst e1 e2
  refine goJ6_checkIndex hF 30 ?_
  simp (disch := omega) only [wJ6_checkIndex_0, uJ6_checkIndex_0, wJ6_checkIndex_1, wJ6_checkIndex_2, wJ6_checkIndex_5, wJ6_checkIndex_8, wJ6_checkIndex_9, amSI_1, amSI_2, amSI_3, amSI_s, amU_at, amIsR_ref, amIsR_null, amIsR_rf, amRf_some, amRf_none, amClr_int, amClr_ref, amClr_null, amClr_long, amClr_ra, amClr_rf, amFit_int, amFit_oref, amFit_aref, amFit_onull, amFit_anull, amOptSome, amOptNone, List.cons_append, List.nil_append, true_and, and_true, true_implies, not_true_eq_false, not_false_eq_true, false_implies, and_self, Nat.add_zero, Nat.zero_add, ne_eq, Prod.mk.injEq, amC01_0, amC01_1, amC01_nb, amNb0, amNb1, amTcpI_d, Nat.reduceLeDiff, Nat.reduceAdd, Nat.reduceSub, Nat.reduceEqDiff, Nat.le_refl, amN0le, amLeI, amLtI, amEqI, amLe0, amGt0, amEq0, amNotPosI, amGe0, amVI, amCl_nI, amAdd, amSub, amMul]
  refine ⟨ckN hi hn ?_, ckR hi hn ?_⟩
  · simp (disch := omega) only [wJ6_checkIndex_0, uJ6_checkIndex_0, wJ6_checkIndex_1, wJ6_checkIndex_2, wJ6_checkIndex_5, wJ6_checkIndex_8, wJ6_checkIndex_9, amSI_1, amSI_2, amSI_3, amSI_s, amU_at, amIsR_ref, amIsR_null, amIsR_rf, amRf_some, amRf_none, amClr_int, amClr_ref, amClr_null, amClr_long, amClr_ra, amClr_rf, amFit_int, amFit_oref, amFit_aref, amFit_onull, amFit_anull, amOptSome, amOptNone, List.cons_append, List.nil_append, true_and, and_true, true_implies, not_true_eq_false, not_false_eq_true, false_implies, and_self, Nat.add_zero, Nat.zero_add, ne_eq, Prod.mk.injEq, amC01_0, amC01_1, amC01_nb, amNb0, amNb1, amTcpI_d, Nat.reduceLeDiff, Nat.reduceAdd, Nat.reduceSub, Nat.reduceEqDiff, Nat.le_refl, amN0le, amLeI, amLtI, amEqI, amLe0, amGt0, amEq0, amNotPosI, amGe0, amVI, amCl_nI, amAdd, amSub, amMul]
    exact amRet.of (by decide) (by decide) hK
  · simp (disch := omega) only [wJ6_checkIndex_0, uJ6_checkIndex_0, wJ6_checkIndex_1, wJ6_checkIndex_2, wJ6_checkIndex_5, wJ6_checkIndex_8, wJ6_checkIndex_9, amSI_1, amSI_2, amSI_3, amSI_s, amU_at, amIsR_ref, amIsR_null, amIsR_rf, amRf_some, amRf_none, amClr_int, amClr_ref, amClr_null, amClr_long, amClr_ra, amClr_rf, amFit_int, amFit_oref, amFit_aref, amFit_onull, amFit_anull, amOptSome, amOptNone, List.cons_append, List.nil_append, true_and, and_true, true_implies, not_true_eq_false, not_false_eq_true, false_implies, and_self, Nat.add_zero, Nat.zero_add, ne_eq, Prod.mk.injEq, amC01_0, amC01_1, amC01_nb, amNb0, amNb1, amTcpI_d, Nat.reduceLeDiff, Nat.reduceAdd, Nat.reduceSub, Nat.reduceEqDiff, Nat.le_refl, amN0le, amLeI, amLtI, amEqI, amLe0, amGt0, amEq0, amNotPosI, amGe0, amVI, amCl_nI, amAdd, amSub, amMul]
    exact amRet.of (by decide) (by decide) hK
theorem tJ6_checkIndex_d {x y : Int32} {h : amH} {K : Option Value → amH → Prop} : tJ6_checkIndex [.int x, .int y] h K = ∃ i n : Nat, x = nI i ∧ y = nI n ∧ i < n ∧ n ≤ 1000 ∧ K none h := rfl
theorem chrF : ∀ c, c < 128 → (nI c &&& nI 255) = nI c ∧ ((nI c).toUInt32 % 65536).toInt32 = nI c ∧ (narrow .char (.int (nI c)) = .int (nI c)) := by
  intro c hc
  have h1 : ∀ c, c < 128 → (nI c &&& nI 255) = nI c ∧ ((nI c).toUInt32 % 65536).toInt32 = nI c := by decide +kernel
  refine ⟨(h1 c hc).1, (h1 c hc).2, ?_⟩
  have := (h1 c hc).2
  show Value.int ((nI c).toUInt32 % 65536).toInt32 = _
  rw [this]
def tJ13_charAt : amT := fun as h K => match as with
  | [.ref a, .int x] => ∃ i n c : Nat, h.1 a = (2, n) ∧ x = nI i ∧ i < n ∧ n ≤ 1000 ∧ h.2.1 a i = nI c ∧ c < 128 ∧ K (some (.int (nI c))) h
  | _ => False
/-! java/lang/StringLatin1.charAt([BI)C -/
def kJ13_charAt : Nat → Bool := fun pc => false
def rJ13_charAt : List (Nat × amS) := [(3, 2, 0, 0, tJ6_checkIndex)]
def eJ13_charAt (ret : Option Value → amH → Nat → Nat → Prop) (F : amX) : Nat → amX := amWp cJ13_charAt kJ13_charAt (amLk rJ13_charAt) (some .char) 0 0 ret F
def sJ13_charAt (ret : Option Value → amH → Nat → Nat → Prop) (F : amX) : Nat → amX := amWs cJ13_charAt kJ13_charAt (amLk rJ13_charAt) (some .char) 0 0 ret F
theorem wJ13_charAt_0 {ret F n h} {v0 st x} : eJ13_charAt ret F (n + 1) 0 [v0, .int x] (st) h 0 0 = (eJ13_charAt ret F n 1 [v0, .int x] (.int x :: st) h 0 0) := (amWp_dec rfl dJ13_charAt_0 rfl).trans rfl
theorem uJ13_charAt_0 {ret F n h} {v0 st x} : sJ13_charAt ret F n 0 [v0, .int x] (st) h 0 0 = (eJ13_charAt ret F n 1 [v0, .int x] (.int x :: st) h 0 0) := (amWs_dec dJ13_charAt_0 rfl).trans rfl
theorem wJ13_charAt_1 {ret F n h} {v0 v1 st} : eJ13_charAt ret F (n + 1) 1 [v0, v1] (st) h 0 0 = (amIsR v0 ∧ eJ13_charAt ret F n 2 [v0, v1] (v0 :: st) h 0 0) := (amWp_dec rfl dJ13_charAt_1 rfl).trans rfl
theorem wJ13_charAt_2 {ret F n h} {v0 v1 st a} : eJ13_charAt ret F (n + 1) 2 [v0, v1] (.ref a :: st) h 0 0 = (1 ≤ (h.1 a).1 ∧ (h.1 a).1 ≤ 8 ∧ eJ13_charAt ret F n 3 [v0, v1] (.int (nI (h.1 a).2) :: st) h 0 0) := (amWp_dec rfl dJ13_charAt_2 rfl).trans rfl
theorem wJ13_charAt_3 {ret F n h} {v0 v1 x1 x0} : eJ13_charAt ret F (n + 1) 3 [v0, v1] (.int x1 :: .int x0 :: []) h 0 0 = (tJ6_checkIndex [.int x0, .int x1] h (fun v h => eJ13_charAt ret F n 6 [v0, v1] (v.toList ++ ([])) h 0 0)) := (amWp_dec rfl dJ13_charAt_3 rfl).trans (amS4 (Nat.le_of_ble_eq_true rfl) (Nat.le_of_ble_eq_true rfl) (Nat.le_of_ble_eq_true rfl) (Nat.le_of_ble_eq_true rfl))
theorem wJ13_charAt_6 {ret F n h} {v0 v1 st} : eJ13_charAt ret F (n + 1) 6 [v0, v1] (st) h 0 0 = (amIsR v0 ∧ eJ13_charAt ret F n 7 [v0, v1] (v0 :: st) h 0 0) := (amWp_dec rfl dJ13_charAt_6 rfl).trans rfl
theorem wJ13_charAt_7 {ret F n h} {v0 st x} : eJ13_charAt ret F (n + 1) 7 [v0, .int x] (st) h 0 0 = (eJ13_charAt ret F n 8 [v0, .int x] (.int x :: st) h 0 0) := (amWp_dec rfl dJ13_charAt_7 rfl).trans rfl
theorem wJ13_charAt_8 {ret F n h} {v0 v1 st x a} : eJ13_charAt ret F (n + 1) 8 [v0, v1] (.int x :: .ref a :: st) h 0 0 = ((h.1 a).1 = 2 ∧ vp_in x (h.1 a).2 ∧ eJ13_charAt ret F n 9 [v0, v1] (.int (h.2.1 a x.toNatClampNeg) :: st) h 0 0) := (amWp_dec rfl dJ13_charAt_8 rfl).trans rfl
theorem wJ13_charAt_9 {ret F n h} {v0 v1 st} : eJ13_charAt ret F (n + 1) 9 [v0, v1] (st) h 0 0 = (eJ13_charAt ret F n 12 [v0, v1] (.int (nI 255) :: st) h 0 0) := (amWp_dec rfl dJ13_charAt_9 rfl).trans rfl
theorem wJ13_charAt_12 {ret F n h} {v0 v1 st y x} : eJ13_charAt ret F (n + 1) 12 [v0, v1] (.int y :: .int x :: st) h 0 0 = (eJ13_charAt ret F n 13 [v0, v1] (.int (x &&& y) :: st) h 0 0) := (amWp_dec rfl dJ13_charAt_12 rfl).trans rfl
theorem wJ13_charAt_13 {ret F n h} {v0 v1 st x} : eJ13_charAt ret F (n + 1) 13 [v0, v1] (.int x :: st) h 0 0 = (eJ13_charAt ret F n 14 [v0, v1] (.int (x.toUInt32 % 65536).toInt32 :: st) h 0 0) := (amWp_dec rfl dJ13_charAt_13 rfl).trans rfl
theorem wJ13_charAt_14 {ret F n h} {v0 v1 x} : eJ13_charAt ret F (n + 1) 14 [v0, v1] ([.int x]) h 0 0 = (narrow .char (.int x) = .int x ∧ ret (some (.int x)) h 0 0) := (amWp_dec rfl dJ13_charAt_14 rfl).trans (amRetTy)
theorem evJ13_charAt (l : Launch) (G : amG) : ∀ pc S i sz, amLk rJ13_charAt pc = some S → decode cJ13_charAt pc = .ok (i, sz) → amSiteP pc G l yJ13_charAt.cls yJ13_charAt.name yJ13_charAt.desc (amRm 3 0 0) i sz S.1 S.2.1 S.2.2.1 S.2.2.2 := amLk_ok (by
  refine List.forall_mem_cons.mpr ⟨⟨_, _, dJ13_charAt_3, amSite.P (amSiteS (metJ6_checkIndex l G) rfl (by decide) (by decide) (lw_S q860 q861 q102 q862) ⟨by decide +kernel, by decide +kernel, by decide +kernel⟩)⟩, ?_⟩
  exact fun _ h => absurd h List.not_mem_nil)
theorem goJ13_charAt {ret F} (hF : amCld cJ13_charAt kJ13_charAt (amLk rJ13_charAt) (some .char) 0 0 ret F) (n : Nat) {pc ls st h k z} (q : sJ13_charAt ret F n pc ls st h k z) : F pc ls st h k z := hF.1 n pc ls st h k z q
theorem metJ13_charAt (l : Launch) (G : amG) : amMet l G yJ13_charAt (ws_ yJ13_charAt cJ13_charAt 2 (some .char)) 3 0 0 tJ13_charAt := by
  refine amMet_of (cut := kJ13_charAt) (by decide +kernel) (evJ13_charAt l G) ?_
  intro as h K hT
  match as, hT with
  | [.ref a, .int x], ⟨i, n, c, h1, e, hi, hn, hc, c1, hK⟩ =>
  refine ⟨Nat.le_of_ble_eq_true rfl, fun F hF => ?_⟩
  show F 0 [.ref a, .int x] [] h 0 0
  obtain ⟨a, rfl⟩ : ∃ i : Nat, i = a := ⟨_, rfl⟩
  subst e
  obtain ⟨f1, f2, f3⟩ := chrF c c1
  refine goJ13_charAt hF 30 ?_
  simp (disch := omega) only [wJ13_charAt_0, uJ13_charAt_0, wJ13_charAt_1, wJ13_charAt_2, wJ13_charAt_3, wJ13_charAt_6, wJ13_charAt_7, wJ13_charAt_8, wJ13_charAt_9, wJ13_charAt_12, wJ13_charAt_13, wJ13_charAt_14, amSI_1, amSI_2, amSI_3, amSI_s, amU_at, amIsR_ref, amIsR_null, amIsR_rf, amRf_some, amRf_none, amClr_int, amClr_ref, amClr_null, amClr_long, amClr_ra, amClr_rf, amFit_int, amFit_oref, amFit_aref, amFit_onull, amFit_anull, amOptSome, amOptNone, List.cons_append, List.nil_append, true_and, and_true, true_implies, not_true_eq_false, not_false_eq_true, false_implies, and_self, Nat.add_zero, Nat.zero_add, ne_eq, Prod.mk.injEq, amC01_0, amC01_1, amC01_nb, amNb0, amNb1, amTcpI_d, Nat.reduceLeDiff, Nat.reduceAdd, Nat.reduceSub, Nat.reduceEqDiff, Nat.le_refl, amN0le, amLeI, amLtI, amEqI, amLe0, amGt0, amEq0, amNotPosI, amGe0, amVI, amCl_nI, amAdd, amSub, amMul, h1]
  rw [tJ6_checkIndex_d]
  refine ⟨i, n, rfl, rfl, hi, hn, ?_⟩
  simp (disch := omega) only [wJ13_charAt_0, uJ13_charAt_0, wJ13_charAt_1, wJ13_charAt_2, wJ13_charAt_3, wJ13_charAt_6, wJ13_charAt_7, wJ13_charAt_8, wJ13_charAt_9, wJ13_charAt_12, wJ13_charAt_13, wJ13_charAt_14, amSI_1, amSI_2, amSI_3, amSI_s, amU_at, amIsR_ref, amIsR_null, amIsR_rf, amRf_some, amRf_none, amClr_int, amClr_ref, amClr_null, amClr_long, amClr_ra, amClr_rf, amFit_int, amFit_oref, amFit_aref, amFit_onull, amFit_anull, amOptSome, amOptNone, List.cons_append, List.nil_append, true_and, and_true, true_implies, not_true_eq_false, not_false_eq_true, false_implies, and_self, Nat.add_zero, Nat.zero_add, ne_eq, Prod.mk.injEq, amC01_0, amC01_1, amC01_nb, amNb0, amNb1, amTcpI_d, Nat.reduceLeDiff, Nat.reduceAdd, Nat.reduceSub, Nat.reduceEqDiff, Nat.le_refl, amN0le, amLeI, amLtI, amEqI, amLe0, amGt0, amEq0, amNotPosI, amGe0, amVI, amCl_nI, amAdd, amSub, amMul, h1, hc, f1, f2, f3]
  exact amRet.of (by decide) (by decide) hK
theorem tJ13_charAt_d {a : Nat} {x : Int32} {h : amH} {K : Option Value → amH → Prop} : tJ13_charAt [.ref a, .int x] h K = ∃ i n c : Nat, h.1 a = (2, n) ∧ x = nI i ∧ i < n ∧ n ≤ 1000 ∧ h.2.1 a i = nI c ∧ c < 128 ∧ K (some (.int (nI c))) h := rfl
def tJ6_charAt : amT := fun as h K => match as with
  | [.ref s, .int x] => ∃ (t : List Nat) (i : Nat), StIs h s t ∧ x = nI i ∧ i < t.length ∧ K (some (.int (nI (t.getD i 0)))) h
  | _ => False
/-! java/lang/String.charAt(I)C -/
def kJ6_charAt : Nat → Bool := fun pc => false
def rJ6_charAt : List (Nat × amS) := [(1, 1, 0, 0, (amRecv 7 tJ6_isLatin1)), (8, 1, 0, 0, amTget 7 0), (12, 2, 0, 0, tJ13_charAt)]
def eJ6_charAt (ret : Option Value → amH → Nat → Nat → Prop) (F : amX) : Nat → amX := amWp cJ6_charAt kJ6_charAt (amLk rJ6_charAt) (some .char) 0 0 ret F
def sJ6_charAt (ret : Option Value → amH → Nat → Nat → Prop) (F : amX) : Nat → amX := amWs cJ6_charAt kJ6_charAt (amLk rJ6_charAt) (some .char) 0 0 ret F
theorem wJ6_charAt_0 {ret F n h} {v0 v1 st} : eJ6_charAt ret F (n + 1) 0 [v0, v1] (st) h 0 0 = (amIsR v0 ∧ eJ6_charAt ret F n 1 [v0, v1] (v0 :: st) h 0 0) := (amWp_dec rfl dJ6_charAt_0 rfl).trans rfl
theorem uJ6_charAt_0 {ret F n h} {v0 v1 st} : sJ6_charAt ret F n 0 [v0, v1] (st) h 0 0 = (amIsR v0 ∧ eJ6_charAt ret F n 1 [v0, v1] (v0 :: st) h 0 0) := (amWs_dec dJ6_charAt_0 rfl).trans rfl
theorem wJ6_charAt_1 {ret F n h} {v0 v1 x0} : eJ6_charAt ret F (n + 1) 1 [v0, v1] (.ref x0 :: []) h 0 0 = (h.1 x0 = (0, 7) ∧ tJ6_isLatin1 [.ref x0] h (fun v h => eJ6_charAt ret F n 4 [v0, v1] (v.toList ++ ([])) h 0 0)) := (amWp_dec rfl dJ6_charAt_1 rfl).trans (amS4 (Nat.le_of_ble_eq_true rfl) (Nat.le_of_ble_eq_true rfl) (Nat.le_of_ble_eq_true rfl) (Nat.le_of_ble_eq_true rfl))
theorem wJ6_charAt_4 {ret F n h} {v0 v1 st x} : eJ6_charAt ret F (n + 1) 4 [v0, v1] (.int x :: st) h 0 0 = ((x = 0 → eJ6_charAt ret F n 16 [v0, v1] (st) h 0 0) ∧ (¬ x = 0 → eJ6_charAt ret F n 7 [v0, v1] (st) h 0 0)) := (amWp_dec rfl dJ6_charAt_4 rfl).trans rfl
theorem wJ6_charAt_7 {ret F n h} {v0 v1 st} : eJ6_charAt ret F (n + 1) 7 [v0, v1] (st) h 0 0 = (amIsR v0 ∧ eJ6_charAt ret F n 8 [v0, v1] (v0 :: st) h 0 0) := (amWp_dec rfl dJ6_charAt_7 rfl).trans rfl
theorem wJ6_charAt_8 {ret F n h} {v0 v1 a} : eJ6_charAt ret F (n + 1) 8 [v0, v1] (.ref a :: []) h 0 0 = (h.1 a = (0, 7) ∧ eJ6_charAt ret F n 11 [v0, v1] (va_rf (h.2.2.2.1 a 0) :: []) h 0 0) := (amWp_dec rfl dJ6_charAt_8 rfl).trans (amS4 (Nat.le_of_ble_eq_true rfl) (Nat.le_of_ble_eq_true rfl) (Nat.le_of_ble_eq_true rfl) (Nat.le_of_ble_eq_true rfl))
theorem wJ6_charAt_11 {ret F n h} {v0 st x} : eJ6_charAt ret F (n + 1) 11 [v0, .int x] (st) h 0 0 = (eJ6_charAt ret F n 12 [v0, .int x] (.int x :: st) h 0 0) := (amWp_dec rfl dJ6_charAt_11 rfl).trans rfl
theorem wJ6_charAt_12 {ret F n h} {v0 v1 x1 x0} : eJ6_charAt ret F (n + 1) 12 [v0, v1] (.int x1 :: .ref x0 :: []) h 0 0 = (tJ13_charAt [.ref x0, .int x1] h (fun v h => eJ6_charAt ret F n 15 [v0, v1] (v.toList ++ ([])) h 0 0)) := (amWp_dec rfl dJ6_charAt_12 rfl).trans (amS4 (Nat.le_of_ble_eq_true rfl) (Nat.le_of_ble_eq_true rfl) (Nat.le_of_ble_eq_true rfl) (Nat.le_of_ble_eq_true rfl))
theorem wJ6_charAt_15 {ret F n h} {v0 v1 x} : eJ6_charAt ret F (n + 1) 15 [v0, v1] ([.int x]) h 0 0 = (narrow .char (.int x) = .int x ∧ ret (some (.int x)) h 0 0) := (amWp_dec rfl dJ6_charAt_15 rfl).trans (amRetTy)
theorem evJ6_charAt (l : Launch) (G : amG) : ∀ pc S i sz, amLk rJ6_charAt pc = some S → decode cJ6_charAt pc = .ok (i, sz) → amSiteP pc G l yJ6_charAt.cls yJ6_charAt.name yJ6_charAt.desc (amRm 4 0 0) i sz S.1 S.2.1 S.2.2.1 S.2.2.2 := amLk_ok (by
  refine List.forall_mem_cons.mpr ⟨⟨_, _, dJ6_charAt_1, amSite.P (amSiteV (C := RJ6) (metJ6_isLatin1 l G) rfl (by decide) (by decide) (lw_V q853 q854 q855 q102 q856) ⟨_, rfl, rfl⟩ ⟨rfl, by decide +kernel, by decide +kernel, by decide +kernel⟩)⟩, ?_⟩
  refine List.forall_mem_cons.mpr ⟨⟨_, _, dJ6_charAt_8, amSite.P (amSiteGet ⟨_, rfl, by decide, Or.inl q833⟩)⟩, ?_⟩
  refine List.forall_mem_cons.mpr ⟨⟨_, _, dJ6_charAt_12, amSite.P (amSiteS (metJ13_charAt l G) rfl (by decide) (by decide) (lw_S q857 q858 q109 q859) ⟨by decide +kernel, by decide +kernel, by decide +kernel⟩)⟩, ?_⟩
  exact fun _ h => absurd h List.not_mem_nil)
theorem goJ6_charAt {ret F} (hF : amCld cJ6_charAt kJ6_charAt (amLk rJ6_charAt) (some .char) 0 0 ret F) (n : Nat) {pc ls st h k z} (q : sJ6_charAt ret F n pc ls st h k z) : F pc ls st h k z := hF.1 n pc ls st h k z q
theorem metJ6_charAt (l : Launch) (G : amG) : amMet l G yJ6_charAt (ws_ yJ6_charAt cJ6_charAt 2 (some .char)) 4 0 0 tJ6_charAt := by
  refine amMet_of (cut := kJ6_charAt) (by decide +kernel) (evJ6_charAt l G) ?_
  intro as h K hT
  match as, hT with
  | [.ref s, .int x], ⟨t, i, hs, e, hi, hK⟩ =>
  refine ⟨Nat.le_of_ble_eq_true rfl, fun F hF => ?_⟩
  show F 0 [.ref s, .int x] [] h 0 0
  obtain ⟨s, rfl⟩ : ∃ i : Nat, i = s := ⟨_, rfl⟩
  subst e
  obtain ⟨s1, s2, v, s3, s4, s5, s6, s7, s8, s9⟩ := hs
  have c1 := s8 _ (getD_mem hi)
  obtain ⟨f1, f2, f3⟩ := chrF _ c1
  refine goJ6_charAt hF 30 ?_
  simp (disch := omega) only [wJ6_charAt_0, uJ6_charAt_0, wJ6_charAt_1, wJ6_charAt_4, wJ6_charAt_7, wJ6_charAt_8, wJ6_charAt_11, wJ6_charAt_12, wJ6_charAt_15, amSI_1, amSI_2, amSI_3, amSI_s, amU_at, amIsR_ref, amIsR_null, amIsR_rf, amRf_some, amRf_none, amClr_int, amClr_ref, amClr_null, amClr_long, amClr_ra, amClr_rf, amFit_int, amFit_oref, amFit_aref, amFit_onull, amFit_anull, amOptSome, amOptNone, List.cons_append, List.nil_append, true_and, and_true, true_implies, not_true_eq_false, not_false_eq_true, false_implies, and_self, Nat.add_zero, Nat.zero_add, ne_eq, Prod.mk.injEq, amC01_0, amC01_1, amC01_nb, amNb0, amNb1, amTcpI_d, Nat.reduceLeDiff, Nat.reduceAdd, Nat.reduceSub, Nat.reduceEqDiff, Nat.le_refl, amN0le, amLeI, amLtI, amEqI, amLe0, amGt0, amEq0, amNotPosI, amGe0, amVI, amCl_nI, amAdd, amSub, amMul, s1, s4, s5, tJ6_isLatin1_d]
  rw [tJ13_charAt_d]
  refine ⟨i, t.length, t.getD i 0, s6, rfl, hi, by omega, s7 i hi, c1, ?_⟩
  simp (disch := omega) only [wJ6_charAt_0, uJ6_charAt_0, wJ6_charAt_1, wJ6_charAt_4, wJ6_charAt_7, wJ6_charAt_8, wJ6_charAt_11, wJ6_charAt_12, wJ6_charAt_15, amSI_1, amSI_2, amSI_3, amSI_s, amU_at, amIsR_ref, amIsR_null, amIsR_rf, amRf_some, amRf_none, amClr_int, amClr_ref, amClr_null, amClr_long, amClr_ra, amClr_rf, amFit_int, amFit_oref, amFit_aref, amFit_onull, amFit_anull, amOptSome, amOptNone, List.cons_append, List.nil_append, true_and, and_true, true_implies, not_true_eq_false, not_false_eq_true, false_implies, and_self, Nat.add_zero, Nat.zero_add, ne_eq, Prod.mk.injEq, amC01_0, amC01_1, amC01_nb, amNb0, amNb1, amTcpI_d, Nat.reduceLeDiff, Nat.reduceAdd, Nat.reduceSub, Nat.reduceEqDiff, Nat.le_refl, amN0le, f3]
  exact amRet.of (by decide) (by decide) hK
theorem tJ6_charAt_d {s : Nat} {x : Int32} {h : amH} {K : Option Value → amH → Prop} : tJ6_charAt [.ref s, .int x] h K = ∃ (t : List Nat) (i : Nat), StIs h s t ∧ x = nI i ∧ i < t.length ∧ K (some (.int (nI (t.getD i 0)))) h := rfl
