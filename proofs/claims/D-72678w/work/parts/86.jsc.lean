/-! the JDK's StringBuilder: what is appended -/
set_option maxRecDepth 100000
theorem appL_getD {l r : List Nat} {i : Nat} : (l ++ r).getD i 0 = if i < l.length then l.getD i 0 else r.getD (i - l.length) 0 := by
  rw [List.getD_eq_getElem?_getD, List.getElem?_append]
  split
  · rw [List.getD_eq_getElem?_getD]
  · rw [List.getD_eq_getElem?_getD]
theorem StIs.same {h h' : amH} {s : Nat} {t : List Nat} (q : StIs h s t) (hn : h.2.2.2.2 ≤ h'.2.2.2.2) (e : ∀ i, i < h.2.2.2.2 → (h.1 i).1 ≠ 0 ∨ (h.1 i).2 = 7 → amSame h h' i) : StIs h' s t := by
  obtain ⟨a1, a2, v, a3, a4, a5, a6, a7, a8, a9⟩ := q
  have e1 := e s a2 (Or.inr (by rw [a1]))
  have e2 := e v a3 (Or.inl (by rw [a6]; exact (by decide : (2 : Nat) ≠ 0)))
  exact ⟨by rw [e1.1]; exact a1, by omega, v, by omega, by rw [e1.2.2.2]; exact a4, by rw [e1.2.1]; exact a5, by rw [e2.1]; exact a6, fun i hi => by rw [e2.2.1]; exact a7 i hi, a8, a9⟩
def tJ6_coder : amT := fun as h K => match as with
  | [.ref s] => h.1 s = (0, 7) ∧ h.2.1 s 1 = nI 0 ∧ K (some (.int (nI 0))) h
  | _ => False
/-! java/lang/String.coder()B -/
def kJ6_coder : Nat → Bool := fun pc => false
def rJ6_coder : List (Nat × amS) := [(0, 0, 0, 0, amTcon (.int 1)), (7, 1, 0, 0, amTget 7 1)]
def eJ6_coder (ret : Option Value → amH → Nat → Nat → Prop) (F : amX) : Nat → amX := amWp cJ6_coder kJ6_coder (amLk rJ6_coder) (some .byte) 0 0 ret F
def sJ6_coder (ret : Option Value → amH → Nat → Nat → Prop) (F : amX) : Nat → amX := amWs cJ6_coder kJ6_coder (amLk rJ6_coder) (some .byte) 0 0 ret F
theorem wJ6_coder_0 {ret F n h} {v0} : eJ6_coder ret F (n + 1) 0 [v0] ([]) h 0 0 = (eJ6_coder ret F n 3 [v0] (.int (nI 1) :: []) h 0 0) := (amWp_dec rfl dJ6_coder_0 rfl).trans (amS4 (Nat.le_of_ble_eq_true rfl) (Nat.le_of_ble_eq_true rfl) (Nat.le_of_ble_eq_true rfl) (Nat.le_of_ble_eq_true rfl))
theorem uJ6_coder_0 {ret F n h} {v0} : sJ6_coder ret F n 0 [v0] ([]) h 0 0 = (eJ6_coder ret F n 3 [v0] (.int (nI 1) :: []) h 0 0) := (amWs_dec dJ6_coder_0 rfl).trans (amS4 (Nat.le_of_ble_eq_true rfl) (Nat.le_of_ble_eq_true rfl) (Nat.le_of_ble_eq_true rfl) (Nat.le_of_ble_eq_true rfl))
theorem wJ6_coder_3 {ret F n h} {v0 st x} : eJ6_coder ret F (n + 1) 3 [v0] (.int x :: st) h 0 0 = ((x = 0 → eJ6_coder ret F n 13 [v0] (st) h 0 0) ∧ (¬ x = 0 → eJ6_coder ret F n 6 [v0] (st) h 0 0)) := (amWp_dec rfl dJ6_coder_3 rfl).trans rfl
theorem wJ6_coder_6 {ret F n h} {v0 st} : eJ6_coder ret F (n + 1) 6 [v0] (st) h 0 0 = (amIsR v0 ∧ eJ6_coder ret F n 7 [v0] (v0 :: st) h 0 0) := (amWp_dec rfl dJ6_coder_6 rfl).trans rfl
theorem wJ6_coder_7 {ret F n h} {v0 a} : eJ6_coder ret F (n + 1) 7 [v0] (.ref a :: []) h 0 0 = (h.1 a = (0, 7) ∧ eJ6_coder ret F n 10 [v0] (.int (h.2.1 a 1) :: []) h 0 0) := (amWp_dec rfl dJ6_coder_7 rfl).trans (amS4 (Nat.le_of_ble_eq_true rfl) (Nat.le_of_ble_eq_true rfl) (Nat.le_of_ble_eq_true rfl) (Nat.le_of_ble_eq_true rfl))
theorem wJ6_coder_10 {ret F n h} {v0 st} : eJ6_coder ret F (n + 1) 10 [v0] (st) h 0 0 = (eJ6_coder ret F n 14 [v0] (st) h 0 0) := (amWp_dec rfl dJ6_coder_10 rfl).trans rfl
theorem wJ6_coder_13 {ret F n h} {v0 st} : eJ6_coder ret F (n + 1) 13 [v0] (st) h 0 0 = (eJ6_coder ret F n 14 [v0] (.int (nI 1) :: st) h 0 0) := (amWp_dec rfl dJ6_coder_13 rfl).trans rfl
theorem wJ6_coder_14 {ret F n h} {v0 x} : eJ6_coder ret F (n + 1) 14 [v0] ([.int x]) h 0 0 = (narrow .byte (.int x) = .int x ∧ ret (some (.int x)) h 0 0) := (amWp_dec rfl dJ6_coder_14 rfl).trans (amRetTy)
theorem evJ6_coder (l : Launch) (G : amG) : ∀ pc S i sz, amLk rJ6_coder pc = some S → decode cJ6_coder pc = .ok (i, sz) → amSiteP pc G l yJ6_coder.cls yJ6_coder.name yJ6_coder.desc (amRm 1 0 0) i sz S.1 S.2.1 S.2.2.1 S.2.2.2 := amLk_ok (by
  refine List.forall_mem_cons.mpr ⟨⟨_, _, dJ6_coder_0, amSite.P (amSiteGs (List.mem_of_getElem? (i := 0) rfl) q719)⟩, ?_⟩
  refine List.forall_mem_cons.mpr ⟨⟨_, _, dJ6_coder_7, amSite.P (amSiteGet ⟨_, rfl, by decide, Or.inl q834⟩)⟩, ?_⟩
  exact fun _ h => absurd h List.not_mem_nil)
theorem goJ6_coder {ret F} (hF : amCld cJ6_coder kJ6_coder (amLk rJ6_coder) (some .byte) 0 0 ret F) (n : Nat) {pc ls st h k z} (q : sJ6_coder ret F n pc ls st h k z) : F pc ls st h k z := hF.1 n pc ls st h k z q
theorem metJ6_coder (l : Launch) (G : amG) : amMet l G yJ6_coder (ws_ yJ6_coder cJ6_coder 1 (some .byte)) 1 0 0 tJ6_coder := by
  refine amMet_of (cut := kJ6_coder) (by decide +kernel) (evJ6_coder l G) ?_
  intro as h K hT
  match as, hT with
  | [.ref s], ⟨h1, h2, hK⟩ =>
  refine ⟨Nat.le_of_ble_eq_true rfl, fun F hF => ?_⟩
  show F 0 [.ref s] [] h 0 0
  obtain ⟨s, rfl⟩ : ∃ i : Nat, i = s := ⟨_, rfl⟩
  refine goJ6_coder hF 20 ?_
  simp (disch := omega) only [wJ6_coder_0, uJ6_coder_0, wJ6_coder_3, wJ6_coder_6, wJ6_coder_7, wJ6_coder_10, wJ6_coder_13, wJ6_coder_14, amSI_1, amSI_2, amSI_3, amSI_s, amU_at, amIsR_ref, amIsR_null, amIsR_rf, amRf_some, amRf_none, amClr_int, amClr_ref, amClr_null, amClr_long, amClr_ra, amClr_rf, amFit_int, amFit_oref, amFit_aref, amFit_onull, amFit_anull, amOptSome, amOptNone, List.cons_append, List.nil_append, true_and, and_true, true_implies, not_true_eq_false, not_false_eq_true, false_implies, and_self, Nat.add_zero, Nat.zero_add, ne_eq, Prod.mk.injEq, amC01_0, amC01_1, amC01_nb, amNb0, amNb1, amTcpI_d, Nat.reduceLeDiff, Nat.reduceAdd, Nat.reduceSub, Nat.reduceEqDiff, Nat.le_refl, amN0le, amLeI, amLtI, amEqI, amLe0, amGt0, amEq0, amNotPosI, amGe0, amVI, amCl_nI, amAdd, amSub, amMul, h1, h2, amNby0]
  exact amRet.of (by decide) (by decide) hK
theorem tJ6_coder_d {s : Nat} {h : amH} {K : Option Value → amH → Prop} : tJ6_coder [.ref s] h K = (h.1 s = (0, 7) ∧ h.2.1 s 1 = nI 0 ∧ K (some (.int (nI 0))) h) := rfl
def tJ6_isLatin1 : amT := fun as h K => match as with
  | [.ref s] => h.1 s = (0, 7) ∧ h.2.1 s 1 = nI 0 ∧ K (some (.int (nI 1))) h
  | _ => False
/-! java/lang/String.isLatin1()Z -/
def kJ6_isLatin1 : Nat → Bool := fun pc => false
def rJ6_isLatin1 : List (Nat × amS) := [(0, 0, 0, 0, amTcon (.int 1)), (7, 1, 0, 0, amTget 7 1)]
def eJ6_isLatin1 (ret : Option Value → amH → Nat → Nat → Prop) (F : amX) : Nat → amX := amWp cJ6_isLatin1 kJ6_isLatin1 (amLk rJ6_isLatin1) (some .boolean) 0 0 ret F
def sJ6_isLatin1 (ret : Option Value → amH → Nat → Nat → Prop) (F : amX) : Nat → amX := amWs cJ6_isLatin1 kJ6_isLatin1 (amLk rJ6_isLatin1) (some .boolean) 0 0 ret F
theorem wJ6_isLatin1_0 {ret F n h} {v0} : eJ6_isLatin1 ret F (n + 1) 0 [v0] ([]) h 0 0 = (eJ6_isLatin1 ret F n 3 [v0] (.int (nI 1) :: []) h 0 0) := (amWp_dec rfl dJ6_isLatin1_0 rfl).trans (amS4 (Nat.le_of_ble_eq_true rfl) (Nat.le_of_ble_eq_true rfl) (Nat.le_of_ble_eq_true rfl) (Nat.le_of_ble_eq_true rfl))
theorem uJ6_isLatin1_0 {ret F n h} {v0} : sJ6_isLatin1 ret F n 0 [v0] ([]) h 0 0 = (eJ6_isLatin1 ret F n 3 [v0] (.int (nI 1) :: []) h 0 0) := (amWs_dec dJ6_isLatin1_0 rfl).trans (amS4 (Nat.le_of_ble_eq_true rfl) (Nat.le_of_ble_eq_true rfl) (Nat.le_of_ble_eq_true rfl) (Nat.le_of_ble_eq_true rfl))
theorem wJ6_isLatin1_3 {ret F n h} {v0 st x} : eJ6_isLatin1 ret F (n + 1) 3 [v0] (.int x :: st) h 0 0 = ((x = 0 → eJ6_isLatin1 ret F n 17 [v0] (st) h 0 0) ∧ (¬ x = 0 → eJ6_isLatin1 ret F n 6 [v0] (st) h 0 0)) := (amWp_dec rfl dJ6_isLatin1_3 rfl).trans rfl
theorem wJ6_isLatin1_6 {ret F n h} {v0 st} : eJ6_isLatin1 ret F (n + 1) 6 [v0] (st) h 0 0 = (amIsR v0 ∧ eJ6_isLatin1 ret F n 7 [v0] (v0 :: st) h 0 0) := (amWp_dec rfl dJ6_isLatin1_6 rfl).trans rfl
theorem wJ6_isLatin1_7 {ret F n h} {v0 a} : eJ6_isLatin1 ret F (n + 1) 7 [v0] (.ref a :: []) h 0 0 = (h.1 a = (0, 7) ∧ eJ6_isLatin1 ret F n 10 [v0] (.int (h.2.1 a 1) :: []) h 0 0) := (amWp_dec rfl dJ6_isLatin1_7 rfl).trans (amS4 (Nat.le_of_ble_eq_true rfl) (Nat.le_of_ble_eq_true rfl) (Nat.le_of_ble_eq_true rfl) (Nat.le_of_ble_eq_true rfl))
theorem wJ6_isLatin1_10 {ret F n h} {v0 st x} : eJ6_isLatin1 ret F (n + 1) 10 [v0] (.int x :: st) h 0 0 = ((¬ x = 0 → eJ6_isLatin1 ret F n 17 [v0] (st) h 0 0) ∧ (x = 0 → eJ6_isLatin1 ret F n 13 [v0] (st) h 0 0)) := (amWp_dec rfl dJ6_isLatin1_10 rfl).trans rfl
theorem wJ6_isLatin1_13 {ret F n h} {v0 st} : eJ6_isLatin1 ret F (n + 1) 13 [v0] (st) h 0 0 = (eJ6_isLatin1 ret F n 14 [v0] (.int (nI 1) :: st) h 0 0) := (amWp_dec rfl dJ6_isLatin1_13 rfl).trans rfl
theorem wJ6_isLatin1_14 {ret F n h} {v0 st} : eJ6_isLatin1 ret F (n + 1) 14 [v0] (st) h 0 0 = (eJ6_isLatin1 ret F n 18 [v0] (st) h 0 0) := (amWp_dec rfl dJ6_isLatin1_14 rfl).trans rfl
theorem wJ6_isLatin1_17 {ret F n h} {v0 st} : eJ6_isLatin1 ret F (n + 1) 17 [v0] (st) h 0 0 = (eJ6_isLatin1 ret F n 18 [v0] (.int (nI 0) :: st) h 0 0) := (amWp_dec rfl dJ6_isLatin1_17 rfl).trans rfl
theorem wJ6_isLatin1_18 {ret F n h} {v0 x} : eJ6_isLatin1 ret F (n + 1) 18 [v0] ([.int x]) h 0 0 = (narrow .boolean (.int x) = .int x ∧ ret (some (.int x)) h 0 0) := (amWp_dec rfl dJ6_isLatin1_18 rfl).trans (amRetTy)
theorem evJ6_isLatin1 (l : Launch) (G : amG) : ∀ pc S i sz, amLk rJ6_isLatin1 pc = some S → decode cJ6_isLatin1 pc = .ok (i, sz) → amSiteP pc G l yJ6_isLatin1.cls yJ6_isLatin1.name yJ6_isLatin1.desc (amRm 1 0 0) i sz S.1 S.2.1 S.2.2.1 S.2.2.2 := amLk_ok (by
  refine List.forall_mem_cons.mpr ⟨⟨_, _, dJ6_isLatin1_0, amSite.P (amSiteGs (List.mem_of_getElem? (i := 0) rfl) q719)⟩, ?_⟩
  refine List.forall_mem_cons.mpr ⟨⟨_, _, dJ6_isLatin1_7, amSite.P (amSiteGet ⟨_, rfl, by decide, Or.inl q834⟩)⟩, ?_⟩
  exact fun _ h => absurd h List.not_mem_nil)
theorem goJ6_isLatin1 {ret F} (hF : amCld cJ6_isLatin1 kJ6_isLatin1 (amLk rJ6_isLatin1) (some .boolean) 0 0 ret F) (n : Nat) {pc ls st h k z} (q : sJ6_isLatin1 ret F n pc ls st h k z) : F pc ls st h k z := hF.1 n pc ls st h k z q
theorem metJ6_isLatin1 (l : Launch) (G : amG) : amMet l G yJ6_isLatin1 (ws_ yJ6_isLatin1 cJ6_isLatin1 1 (some .boolean)) 1 0 0 tJ6_isLatin1 := by
  refine amMet_of (cut := kJ6_isLatin1) (by decide +kernel) (evJ6_isLatin1 l G) ?_
  intro as h K hT
  match as, hT with
  | [.ref s], ⟨h1, h2, hK⟩ =>
  refine ⟨Nat.le_of_ble_eq_true rfl, fun F hF => ?_⟩
  show F 0 [.ref s] [] h 0 0
  obtain ⟨s, rfl⟩ : ∃ i : Nat, i = s := ⟨_, rfl⟩
  refine goJ6_isLatin1 hF 20 ?_
  simp (disch := omega) only [wJ6_isLatin1_0, uJ6_isLatin1_0, wJ6_isLatin1_3, wJ6_isLatin1_6, wJ6_isLatin1_7, wJ6_isLatin1_10, wJ6_isLatin1_13, wJ6_isLatin1_14, wJ6_isLatin1_17, wJ6_isLatin1_18, amSI_1, amSI_2, amSI_3, amSI_s, amU_at, amIsR_ref, amIsR_null, amIsR_rf, amRf_some, amRf_none, amClr_int, amClr_ref, amClr_null, amClr_long, amClr_ra, amClr_rf, amFit_int, amFit_oref, amFit_aref, amFit_onull, amFit_anull, amOptSome, amOptNone, List.cons_append, List.nil_append, true_and, and_true, true_implies, not_true_eq_false, not_false_eq_true, false_implies, and_self, Nat.add_zero, Nat.zero_add, ne_eq, Prod.mk.injEq, amC01_0, amC01_1, amC01_nb, amNb0, amNb1, amTcpI_d, Nat.reduceLeDiff, Nat.reduceAdd, Nat.reduceSub, Nat.reduceEqDiff, Nat.le_refl, amN0le, amLeI, amLtI, amEqI, amLe0, amGt0, amEq0, amNotPosI, amGe0, amVI, amCl_nI, amAdd, amSub, amMul, h1, h2]
  exact amRet.of (by decide) (by decide) hK
theorem tJ6_isLatin1_d {s : Nat} {h : amH} {K : Option Value → amH → Prop} : tJ6_isLatin1 [.ref s] h K = (h.1 s = (0, 7) ∧ h.2.1 s 1 = nI 0 ∧ K (some (.int (nI 1))) h) := rfl
def tJ6_length : amT := fun as h K => match as with
  | [.ref s] => ∃ v n : Nat, h.1 s = (0, 7) ∧ h.2.2.2.1 s 0 = some v ∧ h.2.1 s 1 = nI 0 ∧ h.1 v = (2, n) ∧ K (some (.int (nI n))) h
  | _ => False
/-! java/lang/String.length()I -/
def kJ6_length : Nat → Bool := fun pc => false
def rJ6_length : List (Nat × amS) := [(1, 1, 0, 0, amTget 7 0), (6, 1, 0, 0, (amRecv 7 tJ6_coder))]
def eJ6_length (ret : Option Value → amH → Nat → Nat → Prop) (F : amX) : Nat → amX := amWp cJ6_length kJ6_length (amLk rJ6_length) (some .int) 0 0 ret F
def sJ6_length (ret : Option Value → amH → Nat → Nat → Prop) (F : amX) : Nat → amX := amWs cJ6_length kJ6_length (amLk rJ6_length) (some .int) 0 0 ret F
theorem wJ6_length_0 {ret F n h} {v0 st} : eJ6_length ret F (n + 1) 0 [v0] (st) h 0 0 = (amIsR v0 ∧ eJ6_length ret F n 1 [v0] (v0 :: st) h 0 0) := (amWp_dec rfl dJ6_length_0 rfl).trans rfl
theorem uJ6_length_0 {ret F n h} {v0 st} : sJ6_length ret F n 0 [v0] (st) h 0 0 = (amIsR v0 ∧ eJ6_length ret F n 1 [v0] (v0 :: st) h 0 0) := (amWs_dec dJ6_length_0 rfl).trans rfl
theorem wJ6_length_1 {ret F n h} {v0 a} : eJ6_length ret F (n + 1) 1 [v0] (.ref a :: []) h 0 0 = (h.1 a = (0, 7) ∧ eJ6_length ret F n 4 [v0] (va_rf (h.2.2.2.1 a 0) :: []) h 0 0) := (amWp_dec rfl dJ6_length_1 rfl).trans (amS4 (Nat.le_of_ble_eq_true rfl) (Nat.le_of_ble_eq_true rfl) (Nat.le_of_ble_eq_true rfl) (Nat.le_of_ble_eq_true rfl))
theorem wJ6_length_4 {ret F n h} {v0 st a} : eJ6_length ret F (n + 1) 4 [v0] (.ref a :: st) h 0 0 = (1 ≤ (h.1 a).1 ∧ (h.1 a).1 ≤ 8 ∧ eJ6_length ret F n 5 [v0] (.int (nI (h.1 a).2) :: st) h 0 0) := (amWp_dec rfl dJ6_length_4 rfl).trans rfl
theorem wJ6_length_5 {ret F n h} {v0 st} : eJ6_length ret F (n + 1) 5 [v0] (st) h 0 0 = (amIsR v0 ∧ eJ6_length ret F n 6 [v0] (v0 :: st) h 0 0) := (amWp_dec rfl dJ6_length_5 rfl).trans rfl
theorem wJ6_length_6 {ret F n h} {v0 x0 r0} : eJ6_length ret F (n + 1) 6 [v0] (.ref x0 :: r0 :: []) h 0 0 = (h.1 x0 = (0, 7) ∧ tJ6_coder [.ref x0] h (fun v h => eJ6_length ret F n 9 [v0] (v.toList ++ (r0 :: [])) h 0 0)) := (amWp_dec rfl dJ6_length_6 rfl).trans (amS4 (Nat.le_of_ble_eq_true rfl) (Nat.le_of_ble_eq_true rfl) (Nat.le_of_ble_eq_true rfl) (Nat.le_of_ble_eq_true rfl))
theorem wJ6_length_9 {ret F n h} {v0 st y x} : eJ6_length ret F (n + 1) 9 [v0] (.int y :: .int x :: st) h 0 0 = (eJ6_length ret F n 10 [v0] (.int (x >>> (y &&& 31)) :: st) h 0 0) := (amWp_dec rfl dJ6_length_9 rfl).trans rfl
theorem wJ6_length_10 {ret F n h} {v0 x} : eJ6_length ret F (n + 1) 10 [v0] ([.int x]) h 0 0 = (ret (some (.int x)) h 0 0) := (amWp_dec rfl dJ6_length_10 rfl).trans (amTrue ⟨_, rfl, rfl⟩)
theorem evJ6_length (l : Launch) (G : amG) : ∀ pc S i sz, amLk rJ6_length pc = some S → decode cJ6_length pc = .ok (i, sz) → amSiteP pc G l yJ6_length.cls yJ6_length.name yJ6_length.desc (amRm 2 0 0) i sz S.1 S.2.1 S.2.2.1 S.2.2.2 := amLk_ok (by
  refine List.forall_mem_cons.mpr ⟨⟨_, _, dJ6_length_1, amSite.P (amSiteGet ⟨_, rfl, by decide, Or.inl q833⟩)⟩, ?_⟩
  refine List.forall_mem_cons.mpr ⟨⟨_, _, dJ6_length_6, amSite.P (amSiteV (C := RJ6) (metJ6_coder l G) rfl (by decide) (by decide) (lw_V q715 q716 q717 q102 q718) ⟨_, rfl, rfl⟩ ⟨rfl, by decide +kernel, by decide +kernel, by decide +kernel⟩)⟩, ?_⟩
  exact fun _ h => absurd h List.not_mem_nil)
theorem goJ6_length {ret F} (hF : amCld cJ6_length kJ6_length (amLk rJ6_length) (some .int) 0 0 ret F) (n : Nat) {pc ls st h k z} (q : sJ6_length ret F n pc ls st h k z) : F pc ls st h k z := hF.1 n pc ls st h k z q
theorem metJ6_length (l : Launch) (G : amG) : amMet l G yJ6_length (ws_ yJ6_length cJ6_length 1 (some .int)) 2 0 0 tJ6_length := by
  refine amMet_of (cut := kJ6_length) (by decide +kernel) (evJ6_length l G) ?_
  intro as h K hT
  match as, hT with
  | [.ref s], ⟨v, n, h1, h2, h3, h4, hK⟩ =>
  refine ⟨Nat.le_of_ble_eq_true rfl, fun F hF => ?_⟩
  show F 0 [.ref s] [] h 0 0
  obtain ⟨s, rfl⟩ : ∃ i : Nat, i = s := ⟨_, rfl⟩
  refine goJ6_length hF 20 ?_
  simp (disch := omega) only [wJ6_length_0, uJ6_length_0, wJ6_length_1, wJ6_length_4, wJ6_length_5, wJ6_length_6, wJ6_length_9, wJ6_length_10, amSI_1, amSI_2, amSI_3, amSI_s, amU_at, amIsR_ref, amIsR_null, amIsR_rf, amRf_some, amRf_none, amClr_int, amClr_ref, amClr_null, amClr_long, amClr_ra, amClr_rf, amFit_int, amFit_oref, amFit_aref, amFit_onull, amFit_anull, amOptSome, amOptNone, List.cons_append, List.nil_append, true_and, and_true, true_implies, not_true_eq_false, not_false_eq_true, false_implies, and_self, Nat.add_zero, Nat.zero_add, ne_eq, Prod.mk.injEq, amC01_0, amC01_1, amC01_nb, amNb0, amNb1, amTcpI_d, Nat.reduceLeDiff, Nat.reduceAdd, Nat.reduceSub, Nat.reduceEqDiff, Nat.le_refl, amN0le, h1, h2, h3, h4, tJ6_coder_d, amShr0]
  exact amRet.of (by decide) (by decide) hK
theorem tJ6_length_d {s : Nat} {h : amH} {K : Option Value → amH → Prop} : tJ6_length [.ref s] h K = ∃ v n : Nat, h.1 s = (0, 7) ∧ h.2.2.2.1 s 0 = some v ∧ h.2.1 s 1 = nI 0 ∧ h.1 v = (2, n) ∧ K (some (.int (nI n))) h := rfl
def tJ4_inflateIfNeededFor : amT := fun as h K => match as with
  | [.ref b, .ref s] => h.1 b = (0, 8) ∧ h.2.1 b 1 = nI 0 ∧ h.1 s = (0, 7) ∧ h.2.1 s 1 = nI 0 ∧ K none h
  | _ => False
/-! java/lang/AbstractStringBuilder.inflateIfNeededFor(Ljava/lang/String;)V -/
def kJ4_inflateIfNeededFor : Nat → Bool := fun pc => false
def rJ4_inflateIfNeededFor : List (Nat × amS) := [(0, 0, 0, 0, amTcon (.int 1)), (7, 1, 0, 0, amTget 8 1), (11, 1, 0, 0, (amRecv 7 tJ6_coder))]
def eJ4_inflateIfNeededFor (ret : Option Value → amH → Nat → Nat → Prop) (F : amX) : Nat → amX := amWp cJ4_inflateIfNeededFor kJ4_inflateIfNeededFor (amLk rJ4_inflateIfNeededFor) none 0 0 ret F
def sJ4_inflateIfNeededFor (ret : Option Value → amH → Nat → Nat → Prop) (F : amX) : Nat → amX := amWs cJ4_inflateIfNeededFor kJ4_inflateIfNeededFor (amLk rJ4_inflateIfNeededFor) none 0 0 ret F
theorem wJ4_inflateIfNeededFor_0 {ret F n h} {v0 v1} : eJ4_inflateIfNeededFor ret F (n + 1) 0 [v0, v1] ([]) h 0 0 = (eJ4_inflateIfNeededFor ret F n 3 [v0, v1] (.int (nI 1) :: []) h 0 0) := (amWp_dec rfl dJ4_inflateIfNeededFor_0 rfl).trans (amS4 (Nat.le_of_ble_eq_true rfl) (Nat.le_of_ble_eq_true rfl) (Nat.le_of_ble_eq_true rfl) (Nat.le_of_ble_eq_true rfl))
theorem uJ4_inflateIfNeededFor_0 {ret F n h} {v0 v1} : sJ4_inflateIfNeededFor ret F n 0 [v0, v1] ([]) h 0 0 = (eJ4_inflateIfNeededFor ret F n 3 [v0, v1] (.int (nI 1) :: []) h 0 0) := (amWs_dec dJ4_inflateIfNeededFor_0 rfl).trans (amS4 (Nat.le_of_ble_eq_true rfl) (Nat.le_of_ble_eq_true rfl) (Nat.le_of_ble_eq_true rfl) (Nat.le_of_ble_eq_true rfl))
theorem wJ4_inflateIfNeededFor_3 {ret F n h} {v0 v1 st x} : eJ4_inflateIfNeededFor ret F (n + 1) 3 [v0, v1] (.int x :: st) h 0 0 = ((x = 0 → eJ4_inflateIfNeededFor ret F n 21 [v0, v1] (st) h 0 0) ∧ (¬ x = 0 → eJ4_inflateIfNeededFor ret F n 6 [v0, v1] (st) h 0 0)) := (amWp_dec rfl dJ4_inflateIfNeededFor_3 rfl).trans rfl
theorem wJ4_inflateIfNeededFor_6 {ret F n h} {v0 v1 st} : eJ4_inflateIfNeededFor ret F (n + 1) 6 [v0, v1] (st) h 0 0 = (amIsR v0 ∧ eJ4_inflateIfNeededFor ret F n 7 [v0, v1] (v0 :: st) h 0 0) := (amWp_dec rfl dJ4_inflateIfNeededFor_6 rfl).trans rfl
theorem wJ4_inflateIfNeededFor_7 {ret F n h} {v0 v1 a} : eJ4_inflateIfNeededFor ret F (n + 1) 7 [v0, v1] (.ref a :: []) h 0 0 = (h.1 a = (0, 8) ∧ eJ4_inflateIfNeededFor ret F n 10 [v0, v1] (.int (h.2.1 a 1) :: []) h 0 0) := (amWp_dec rfl dJ4_inflateIfNeededFor_7 rfl).trans (amS4 (Nat.le_of_ble_eq_true rfl) (Nat.le_of_ble_eq_true rfl) (Nat.le_of_ble_eq_true rfl) (Nat.le_of_ble_eq_true rfl))
theorem wJ4_inflateIfNeededFor_10 {ret F n h} {v0 v1 st} : eJ4_inflateIfNeededFor ret F (n + 1) 10 [v0, v1] (st) h 0 0 = (amIsR v1 ∧ eJ4_inflateIfNeededFor ret F n 11 [v0, v1] (v1 :: st) h 0 0) := (amWp_dec rfl dJ4_inflateIfNeededFor_10 rfl).trans rfl
theorem wJ4_inflateIfNeededFor_11 {ret F n h} {v0 v1 x0 r0} : eJ4_inflateIfNeededFor ret F (n + 1) 11 [v0, v1] (.ref x0 :: r0 :: []) h 0 0 = (h.1 x0 = (0, 7) ∧ tJ6_coder [.ref x0] h (fun v h => eJ4_inflateIfNeededFor ret F n 14 [v0, v1] (v.toList ++ (r0 :: [])) h 0 0)) := (amWp_dec rfl dJ4_inflateIfNeededFor_11 rfl).trans (amS4 (Nat.le_of_ble_eq_true rfl) (Nat.le_of_ble_eq_true rfl) (Nat.le_of_ble_eq_true rfl) (Nat.le_of_ble_eq_true rfl))
theorem wJ4_inflateIfNeededFor_14 {ret F n h} {v0 v1 st y x} : eJ4_inflateIfNeededFor ret F (n + 1) 14 [v0, v1] (.int y :: .int x :: st) h 0 0 = ((x = y → eJ4_inflateIfNeededFor ret F n 21 [v0, v1] (st) h 0 0) ∧ (¬ x = y → eJ4_inflateIfNeededFor ret F n 17 [v0, v1] (st) h 0 0)) := (amWp_dec rfl dJ4_inflateIfNeededFor_14 rfl).trans rfl
theorem wJ4_inflateIfNeededFor_21 {ret F n h} {v0 v1} : eJ4_inflateIfNeededFor ret F (n + 1) 21 [v0, v1] ([]) h 0 0 = (ret none h 0 0) := (amWp_dec rfl dJ4_inflateIfNeededFor_21 rfl).trans (amTrue rfl)
theorem evJ4_inflateIfNeededFor (l : Launch) (G : amG) : ∀ pc S i sz, amLk rJ4_inflateIfNeededFor pc = some S → decode cJ4_inflateIfNeededFor pc = .ok (i, sz) → amSiteP pc G l yJ4_inflateIfNeededFor.cls yJ4_inflateIfNeededFor.name yJ4_inflateIfNeededFor.desc (amRm 2 0 0) i sz S.1 S.2.1 S.2.2.1 S.2.2.2 := amLk_ok (by
  refine List.forall_mem_cons.mpr ⟨⟨_, _, dJ4_inflateIfNeededFor_0, amSite.P (amSiteGs (List.mem_of_getElem? (i := 0) rfl) q591)⟩, ?_⟩
  refine List.forall_mem_cons.mpr ⟨⟨_, _, dJ4_inflateIfNeededFor_7, amSite.P (amSiteGet ⟨_, rfl, by decide, Or.inl q624⟩)⟩, ?_⟩
  refine List.forall_mem_cons.mpr ⟨⟨_, _, dJ4_inflateIfNeededFor_11, amSite.P (amSiteV (C := RJ6) (metJ6_coder l G) rfl (by decide) (by decide) (lw_V q728 q716 q717 q102 q718) ⟨_, rfl, rfl⟩ ⟨rfl, by decide +kernel, by decide +kernel, by decide +kernel⟩)⟩, ?_⟩
  exact fun _ h => absurd h List.not_mem_nil)
theorem goJ4_inflateIfNeededFor {ret F} (hF : amCld cJ4_inflateIfNeededFor kJ4_inflateIfNeededFor (amLk rJ4_inflateIfNeededFor) none 0 0 ret F) (n : Nat) {pc ls st h k z} (q : sJ4_inflateIfNeededFor ret F n pc ls st h k z) : F pc ls st h k z := hF.1 n pc ls st h k z q
theorem metJ4_inflateIfNeededFor (l : Launch) (G : amG) : amMet l G yJ4_inflateIfNeededFor (ws_ yJ4_inflateIfNeededFor cJ4_inflateIfNeededFor 2 none) 2 0 0 tJ4_inflateIfNeededFor := by
  refine amMet_of (cut := kJ4_inflateIfNeededFor) (by decide +kernel) (evJ4_inflateIfNeededFor l G) ?_
  intro as h K hT
  match as, hT with
  | [.ref b, .ref s], ⟨h1, h2, h3, h4, hK⟩ =>
  refine ⟨Nat.le_of_ble_eq_true rfl, fun F hF => ?_⟩
  show F 0 [.ref b, .ref s] [] h 0 0
  obtain ⟨b, rfl⟩ : ∃ i : Nat, i = b := ⟨_, rfl⟩
  obtain ⟨s, rfl⟩ : ∃ i : Nat, i = s := ⟨_, rfl⟩
  refine goJ4_inflateIfNeededFor hF 20 ?_
  simp (disch := omega) only [wJ4_inflateIfNeededFor_0, uJ4_inflateIfNeededFor_0, wJ4_inflateIfNeededFor_3, wJ4_inflateIfNeededFor_6, wJ4_inflateIfNeededFor_7, wJ4_inflateIfNeededFor_10, wJ4_inflateIfNeededFor_11, wJ4_inflateIfNeededFor_14, wJ4_inflateIfNeededFor_21, amSI_1, amSI_2, amSI_3, amSI_s, amU_at, amIsR_ref, amIsR_null, amIsR_rf, amRf_some, amRf_none, amClr_int, amClr_ref, amClr_null, amClr_long, amClr_ra, amClr_rf, amFit_int, amFit_oref, amFit_aref, amFit_onull, amFit_anull, amOptSome, amOptNone, List.cons_append, List.nil_append, true_and, and_true, true_implies, not_true_eq_false, not_false_eq_true, false_implies, and_self, Nat.add_zero, Nat.zero_add, ne_eq, Prod.mk.injEq, amC01_0, amC01_1, amC01_nb, amNb0, amNb1, amTcpI_d, Nat.reduceLeDiff, Nat.reduceAdd, Nat.reduceSub, Nat.reduceEqDiff, Nat.le_refl, amN0le, amLeI, amLtI, amEqI, amLe0, amGt0, amEq0, amNotPosI, amGe0, amVI, amCl_nI, amAdd, amSub, amMul, h1, h2, h3, h4, tJ6_coder_d]
  exact amRet.of (by decide) (by decide) hK
theorem tJ4_inflateIfNeededFor_d {b s : Nat} {h : amH} {K : Option Value → amH → Prop} : tJ4_inflateIfNeededFor [.ref b, .ref s] h K = (h.1 b = (0, 8) ∧ h.2.1 b 1 = nI 0 ∧ h.1 s = (0, 7) ∧ h.2.1 s 1 = nI 0 ∧ K none h) := rfl
def tJ6_getBytes : amT := fun as h K => match as with
  | [.ref s, .ref a, .int p, .int c] => ∃ v n m cap : Nat, c = nI 0 ∧ h.1 s = (0, 7) ∧ h.2.2.2.1 s 0 = some v ∧ h.2.1 s 1 = nI 0 ∧ h.1 v = (2, n) ∧ h.1 a = (2, cap) ∧ p = nI m ∧ m + n ≤ cap ∧ cap ≤ 1000 ∧ 24 ≤ a ∧ K none (amSI h (va_up h.2.1 a (va_cpy (h.2.1 v) (h.2.1 a) 0 m n)))
  | _ => False
/-! java/lang/String.getBytes([BIB)V -/
def kJ6_getBytes : Nat → Bool := fun pc => false
def rJ6_getBytes : List (Nat × amS) := [(1, 1, 0, 0, (amRecv 7 tJ6_coder)), (9, 1, 0, 0, amTget 7 0), (18, 1, 0, 0, amTget 7 0), (22, 5, 0, 0, amTcpI)]
def eJ6_getBytes (ret : Option Value → amH → Nat → Nat → Prop) (F : amX) : Nat → amX := amWp cJ6_getBytes kJ6_getBytes (amLk rJ6_getBytes) none 0 0 ret F
def sJ6_getBytes (ret : Option Value → amH → Nat → Nat → Prop) (F : amX) : Nat → amX := amWs cJ6_getBytes kJ6_getBytes (amLk rJ6_getBytes) none 0 0 ret F
theorem wJ6_getBytes_0 {ret F n h} {v0 v1 v2 v3 st} : eJ6_getBytes ret F (n + 1) 0 [v0, v1, v2, v3] (st) h 0 0 = (amIsR v0 ∧ eJ6_getBytes ret F n 1 [v0, v1, v2, v3] (v0 :: st) h 0 0) := (amWp_dec rfl dJ6_getBytes_0 rfl).trans rfl
theorem uJ6_getBytes_0 {ret F n h} {v0 v1 v2 v3 st} : sJ6_getBytes ret F n 0 [v0, v1, v2, v3] (st) h 0 0 = (amIsR v0 ∧ eJ6_getBytes ret F n 1 [v0, v1, v2, v3] (v0 :: st) h 0 0) := (amWs_dec dJ6_getBytes_0 rfl).trans rfl
theorem wJ6_getBytes_1 {ret F n h} {v0 v1 v2 v3 x0} : eJ6_getBytes ret F (n + 1) 1 [v0, v1, v2, v3] (.ref x0 :: []) h 0 0 = (h.1 x0 = (0, 7) ∧ tJ6_coder [.ref x0] h (fun v h => eJ6_getBytes ret F n 4 [v0, v1, v2, v3] (v.toList ++ ([])) h 0 0)) := (amWp_dec rfl dJ6_getBytes_1 rfl).trans (amS4 (Nat.le_of_ble_eq_true rfl) (Nat.le_of_ble_eq_true rfl) (Nat.le_of_ble_eq_true rfl) (Nat.le_of_ble_eq_true rfl))
theorem wJ6_getBytes_4 {ret F n h} {v0 v1 v2 st x} : eJ6_getBytes ret F (n + 1) 4 [v0, v1, v2, .int x] (st) h 0 0 = (eJ6_getBytes ret F n 5 [v0, v1, v2, .int x] (.int x :: st) h 0 0) := (amWp_dec rfl dJ6_getBytes_4 rfl).trans rfl
theorem wJ6_getBytes_5 {ret F n h} {v0 v1 v2 v3 st y x} : eJ6_getBytes ret F (n + 1) 5 [v0, v1, v2, v3] (.int y :: .int x :: st) h 0 0 = ((¬ x = y → eJ6_getBytes ret F n 28 [v0, v1, v2, v3] (st) h 0 0) ∧ (x = y → eJ6_getBytes ret F n 8 [v0, v1, v2, v3] (st) h 0 0)) := (amWp_dec rfl dJ6_getBytes_5 rfl).trans rfl
theorem wJ6_getBytes_8 {ret F n h} {v0 v1 v2 v3 st} : eJ6_getBytes ret F (n + 1) 8 [v0, v1, v2, v3] (st) h 0 0 = (amIsR v0 ∧ eJ6_getBytes ret F n 9 [v0, v1, v2, v3] (v0 :: st) h 0 0) := (amWp_dec rfl dJ6_getBytes_8 rfl).trans rfl
theorem wJ6_getBytes_9 {ret F n h} {v0 v1 v2 v3 a} : eJ6_getBytes ret F (n + 1) 9 [v0, v1, v2, v3] (.ref a :: []) h 0 0 = (h.1 a = (0, 7) ∧ eJ6_getBytes ret F n 12 [v0, v1, v2, v3] (va_rf (h.2.2.2.1 a 0) :: []) h 0 0) := (amWp_dec rfl dJ6_getBytes_9 rfl).trans (amS4 (Nat.le_of_ble_eq_true rfl) (Nat.le_of_ble_eq_true rfl) (Nat.le_of_ble_eq_true rfl) (Nat.le_of_ble_eq_true rfl))
theorem wJ6_getBytes_12 {ret F n h} {v0 v1 v2 v3 st} : eJ6_getBytes ret F (n + 1) 12 [v0, v1, v2, v3] (st) h 0 0 = (eJ6_getBytes ret F n 13 [v0, v1, v2, v3] (.int (nI 0) :: st) h 0 0) := (amWp_dec rfl dJ6_getBytes_12 rfl).trans rfl
theorem wJ6_getBytes_13 {ret F n h} {v0 v1 v2 v3 st} : eJ6_getBytes ret F (n + 1) 13 [v0, v1, v2, v3] (st) h 0 0 = (amIsR v1 ∧ eJ6_getBytes ret F n 14 [v0, v1, v2, v3] (v1 :: st) h 0 0) := (amWp_dec rfl dJ6_getBytes_13 rfl).trans rfl
theorem wJ6_getBytes_14 {ret F n h} {v0 v1 v3 st x} : eJ6_getBytes ret F (n + 1) 14 [v0, v1, .int x, v3] (st) h 0 0 = (eJ6_getBytes ret F n 15 [v0, v1, .int x, v3] (.int x :: st) h 0 0) := (amWp_dec rfl dJ6_getBytes_14 rfl).trans rfl
theorem wJ6_getBytes_15 {ret F n h} {v0 v1 v2 st x} : eJ6_getBytes ret F (n + 1) 15 [v0, v1, v2, .int x] (st) h 0 0 = (eJ6_getBytes ret F n 16 [v0, v1, v2, .int x] (.int x :: st) h 0 0) := (amWp_dec rfl dJ6_getBytes_15 rfl).trans rfl
theorem wJ6_getBytes_16 {ret F n h} {v0 v1 v2 v3 st y x} : eJ6_getBytes ret F (n + 1) 16 [v0, v1, v2, v3] (.int y :: .int x :: st) h 0 0 = (eJ6_getBytes ret F n 17 [v0, v1, v2, v3] (.int (x <<< (y &&& 31)) :: st) h 0 0) := (amWp_dec rfl dJ6_getBytes_16 rfl).trans rfl
theorem wJ6_getBytes_17 {ret F n h} {v0 v1 v2 v3 st} : eJ6_getBytes ret F (n + 1) 17 [v0, v1, v2, v3] (st) h 0 0 = (amIsR v0 ∧ eJ6_getBytes ret F n 18 [v0, v1, v2, v3] (v0 :: st) h 0 0) := (amWp_dec rfl dJ6_getBytes_17 rfl).trans rfl
theorem wJ6_getBytes_18 {ret F n h} {v0 v1 v2 v3 r0 r1 r2 r3 a} : eJ6_getBytes ret F (n + 1) 18 [v0, v1, v2, v3] (.ref a :: r0 :: r1 :: r2 :: r3 :: []) h 0 0 = (h.1 a = (0, 7) ∧ eJ6_getBytes ret F n 21 [v0, v1, v2, v3] (va_rf (h.2.2.2.1 a 0) :: r0 :: r1 :: r2 :: r3 :: []) h 0 0) := (amWp_dec rfl dJ6_getBytes_18 rfl).trans (amS4 (Nat.le_of_ble_eq_true rfl) (Nat.le_of_ble_eq_true rfl) (Nat.le_of_ble_eq_true rfl) (Nat.le_of_ble_eq_true rfl))
theorem wJ6_getBytes_21 {ret F n h} {v0 v1 v2 v3 st a} : eJ6_getBytes ret F (n + 1) 21 [v0, v1, v2, v3] (.ref a :: st) h 0 0 = (1 ≤ (h.1 a).1 ∧ (h.1 a).1 ≤ 8 ∧ eJ6_getBytes ret F n 22 [v0, v1, v2, v3] (.int (nI (h.1 a).2) :: st) h 0 0) := (amWp_dec rfl dJ6_getBytes_21 rfl).trans rfl
theorem wJ6_getBytes_22 {ret F n h} {v0 v1 v2 v3 x4 x3 x2 x1 x0} : eJ6_getBytes ret F (n + 1) 22 [v0, v1, v2, v3] (.int x4 :: .int x3 :: .ref x2 :: .int x1 :: .ref x0 :: []) h 0 0 = (amTcpI [.ref x0, .int x1, .ref x2, .int x3, .int x4] h (fun v h => eJ6_getBytes ret F n 25 [v0, v1, v2, v3] (v.toList ++ ([])) h 0 0)) := (amWp_dec rfl dJ6_getBytes_22 rfl).trans (amS4 (Nat.le_of_ble_eq_true rfl) (Nat.le_of_ble_eq_true rfl) (Nat.le_of_ble_eq_true rfl) (Nat.le_of_ble_eq_true rfl))
theorem wJ6_getBytes_25 {ret F n h} {v0 v1 v2 v3 st} : eJ6_getBytes ret F (n + 1) 25 [v0, v1, v2, v3] (st) h 0 0 = (eJ6_getBytes ret F n 43 [v0, v1, v2, v3] (st) h 0 0) := (amWp_dec rfl dJ6_getBytes_25 rfl).trans rfl
theorem wJ6_getBytes_43 {ret F n h} {v0 v1 v2 v3} : eJ6_getBytes ret F (n + 1) 43 [v0, v1, v2, v3] ([]) h 0 0 = (ret none h 0 0) := (amWp_dec rfl dJ6_getBytes_43 rfl).trans (amTrue rfl)
theorem evJ6_getBytes (l : Launch) (G : amG) : ∀ pc S i sz, amLk rJ6_getBytes pc = some S → decode cJ6_getBytes pc = .ok (i, sz) → amSiteP pc G l yJ6_getBytes.cls yJ6_getBytes.name yJ6_getBytes.desc (amRm 2 0 0) i sz S.1 S.2.1 S.2.2.1 S.2.2.2 := amLk_ok (by
  refine List.forall_mem_cons.mpr ⟨⟨_, _, dJ6_getBytes_1, amSite.P (amSiteV (C := RJ6) (metJ6_coder l G) rfl (by decide) (by decide) (lw_V q715 q716 q717 q102 q718) ⟨_, rfl, rfl⟩ ⟨rfl, by decide +kernel, by decide +kernel, by decide +kernel⟩)⟩, ?_⟩
  refine List.forall_mem_cons.mpr ⟨⟨_, _, dJ6_getBytes_9, amSite.P (amSiteGet ⟨_, rfl, by decide, Or.inl q833⟩)⟩, ?_⟩
  refine List.forall_mem_cons.mpr ⟨⟨_, _, dJ6_getBytes_18, amSite.P (amSiteGet ⟨_, rfl, by decide, Or.inl q833⟩)⟩, ?_⟩
  refine List.forall_mem_cons.mpr ⟨⟨_, _, dJ6_getBytes_22, amSite.P (amSiteCpI rfl (by decide) q752 q473 q472 q95)⟩, ?_⟩
  exact fun _ h => absurd h List.not_mem_nil)
theorem goJ6_getBytes {ret F} (hF : amCld cJ6_getBytes kJ6_getBytes (amLk rJ6_getBytes) none 0 0 ret F) (n : Nat) {pc ls st h k z} (q : sJ6_getBytes ret F n pc ls st h k z) : F pc ls st h k z := hF.1 n pc ls st h k z q
theorem metJ6_getBytes (l : Launch) (G : amG) : amMet l G yJ6_getBytes (ws_ yJ6_getBytes cJ6_getBytes 4 none) 2 0 0 tJ6_getBytes := by
  refine amMet_of (cut := kJ6_getBytes) (by decide +kernel) (evJ6_getBytes l G) ?_
  intro as h K hT
  match as, hT with
  | [.ref s, .ref a, .int p, .int c], ⟨v, n, m, cap, e0, h1, h2, h3, h4, h5, e, mn, cp, a24, hK⟩ =>
  refine ⟨Nat.le_of_ble_eq_true rfl, fun F hF => ?_⟩
  show F 0 [.ref s, .ref a, .int p, .int c] [] h 0 0
  obtain ⟨s, rfl⟩ : ∃ i : Nat, i = s := ⟨_, rfl⟩
  obtain ⟨a, rfl⟩ : ∃ i : Nat, i = a := ⟨_, rfl⟩
  subst e e0
  have c1 : (m + n ≤ cap) = True := eq_true mn
  have c2 : (n ≤ n) = True := eq_true (Nat.le_refl n)
  have a24' : (amN0 ≤ a) = True := eq_true a24
  refine goJ6_getBytes hF 60 ?_
  simp (disch := omega) only [wJ6_getBytes_0, uJ6_getBytes_0, wJ6_getBytes_1, wJ6_getBytes_4, wJ6_getBytes_5, wJ6_getBytes_8, wJ6_getBytes_9, wJ6_getBytes_12, wJ6_getBytes_13, wJ6_getBytes_14, wJ6_getBytes_15, wJ6_getBytes_16, wJ6_getBytes_17, wJ6_getBytes_18, wJ6_getBytes_21, wJ6_getBytes_22, wJ6_getBytes_25, wJ6_getBytes_43, amSI_1, amSI_2, amSI_3, amSI_s, amU_at, amIsR_ref, amIsR_null, amIsR_rf, amRf_some, amRf_none, amClr_int, amClr_ref, amClr_null, amClr_long, amClr_ra, amClr_rf, amFit_int, amFit_oref, amFit_aref, amFit_onull, amFit_anull, amOptSome, amOptNone, List.cons_append, List.nil_append, true_and, and_true, true_implies, not_true_eq_false, not_false_eq_true, false_implies, and_self, Nat.add_zero, Nat.zero_add, ne_eq, Prod.mk.injEq, amC01_0, amC01_1, amC01_nb, amNb0, amNb1, amTcpI_d, Nat.reduceLeDiff, Nat.reduceAdd, Nat.reduceSub, Nat.reduceEqDiff, Nat.le_refl, amN0le, amLeI, amLtI, amEqI, amLe0, amGt0, amEq0, amNotPosI, amGe0, amVI, amCl_nI, amAdd, amSub, amMul, h1, h2, h3, h4, h5, tJ6_coder_d, amShl0, amTcpI_d, c1, c2, a24']
  exact amRet.of (by decide) (by decide) hK
theorem tJ6_getBytes_d {s a : Nat} {p c : Int32} {h : amH} {K : Option Value → amH → Prop} : tJ6_getBytes [.ref s, .ref a, .int p, .int c] h K = ∃ v n m cap : Nat, c = nI 0 ∧ h.1 s = (0, 7) ∧ h.2.2.2.1 s 0 = some v ∧ h.2.1 s 1 = nI 0 ∧ h.1 v = (2, n) ∧ h.1 a = (2, cap) ∧ p = nI m ∧ m + n ≤ cap ∧ cap ≤ 1000 ∧ 24 ≤ a ∧ K none (amSI h (va_up h.2.1 a (va_cpy (h.2.1 v) (h.2.1 a) 0 m n))) := rfl
def tJ4_putStringAt : amT := fun as h K => match as with
  | [.ref b, .int p, .ref s] => ∃ a v n m cap : Nat, h.1 b = (0, 8) ∧ h.2.2.2.1 b 0 = some a ∧ h.2.1 b 1 = nI 0 ∧ h.1 s = (0, 7) ∧ h.2.2.2.1 s 0 = some v ∧ h.2.1 s 1 = nI 0 ∧ h.1 v = (2, n) ∧ h.1 a = (2, cap) ∧ p = nI m ∧ m + n ≤ cap ∧ cap ≤ 1000 ∧ 24 ≤ a ∧ K none (amSI h (va_up h.2.1 a (va_cpy (h.2.1 v) (h.2.1 a) 0 m n)))
  | _ => False
/-! java/lang/AbstractStringBuilder.putStringAt(ILjava/lang/String;)V -/
def kJ4_putStringAt : Nat → Bool := fun pc => false
def rJ4_putStringAt : List (Nat × amS) := [(2, 2, 0, 0, (amRecv 8 tJ4_inflateIfNeededFor)), (7, 1, 0, 0, amTget 8 0), (12, 1, 0, 0, amTget 8 1), (15, 4, 0, 0, (amRecv 7 tJ6_getBytes))]
def eJ4_putStringAt (ret : Option Value → amH → Nat → Nat → Prop) (F : amX) : Nat → amX := amWp cJ4_putStringAt kJ4_putStringAt (amLk rJ4_putStringAt) none 0 0 ret F
def sJ4_putStringAt (ret : Option Value → amH → Nat → Nat → Prop) (F : amX) : Nat → amX := amWs cJ4_putStringAt kJ4_putStringAt (amLk rJ4_putStringAt) none 0 0 ret F
theorem wJ4_putStringAt_0 {ret F n h} {v0 v1 v2 st} : eJ4_putStringAt ret F (n + 1) 0 [v0, v1, v2] (st) h 0 0 = (amIsR v0 ∧ eJ4_putStringAt ret F n 1 [v0, v1, v2] (v0 :: st) h 0 0) := (amWp_dec rfl dJ4_putStringAt_0 rfl).trans rfl
theorem uJ4_putStringAt_0 {ret F n h} {v0 v1 v2 st} : sJ4_putStringAt ret F n 0 [v0, v1, v2] (st) h 0 0 = (amIsR v0 ∧ eJ4_putStringAt ret F n 1 [v0, v1, v2] (v0 :: st) h 0 0) := (amWs_dec dJ4_putStringAt_0 rfl).trans rfl
theorem wJ4_putStringAt_1 {ret F n h} {v0 v1 v2 st} : eJ4_putStringAt ret F (n + 1) 1 [v0, v1, v2] (st) h 0 0 = (amIsR v2 ∧ eJ4_putStringAt ret F n 2 [v0, v1, v2] (v2 :: st) h 0 0) := (amWp_dec rfl dJ4_putStringAt_1 rfl).trans rfl
theorem wJ4_putStringAt_2 {ret F n h} {v0 v1 v2 x1 x0} : eJ4_putStringAt ret F (n + 1) 2 [v0, v1, v2] (.ref x1 :: .ref x0 :: []) h 0 0 = (h.1 x0 = (0, 8) ∧ tJ4_inflateIfNeededFor [.ref x0, .ref x1] h (fun v h => eJ4_putStringAt ret F n 5 [v0, v1, v2] (v.toList ++ ([])) h 0 0)) := (amWp_dec rfl dJ4_putStringAt_2 rfl).trans (amS4 (Nat.le_of_ble_eq_true rfl) (Nat.le_of_ble_eq_true rfl) (Nat.le_of_ble_eq_true rfl) (Nat.le_of_ble_eq_true rfl))
theorem wJ4_putStringAt_5 {ret F n h} {v0 v1 v2 st} : eJ4_putStringAt ret F (n + 1) 5 [v0, v1, v2] (st) h 0 0 = (amIsR v2 ∧ eJ4_putStringAt ret F n 6 [v0, v1, v2] (v2 :: st) h 0 0) := (amWp_dec rfl dJ4_putStringAt_5 rfl).trans rfl
theorem wJ4_putStringAt_6 {ret F n h} {v0 v1 v2 st} : eJ4_putStringAt ret F (n + 1) 6 [v0, v1, v2] (st) h 0 0 = (amIsR v0 ∧ eJ4_putStringAt ret F n 7 [v0, v1, v2] (v0 :: st) h 0 0) := (amWp_dec rfl dJ4_putStringAt_6 rfl).trans rfl
theorem wJ4_putStringAt_7 {ret F n h} {v0 v1 v2 r0 a} : eJ4_putStringAt ret F (n + 1) 7 [v0, v1, v2] (.ref a :: r0 :: []) h 0 0 = (h.1 a = (0, 8) ∧ eJ4_putStringAt ret F n 10 [v0, v1, v2] (va_rf (h.2.2.2.1 a 0) :: r0 :: []) h 0 0) := (amWp_dec rfl dJ4_putStringAt_7 rfl).trans (amS4 (Nat.le_of_ble_eq_true rfl) (Nat.le_of_ble_eq_true rfl) (Nat.le_of_ble_eq_true rfl) (Nat.le_of_ble_eq_true rfl))
theorem wJ4_putStringAt_10 {ret F n h} {v0 v2 st x} : eJ4_putStringAt ret F (n + 1) 10 [v0, .int x, v2] (st) h 0 0 = (eJ4_putStringAt ret F n 11 [v0, .int x, v2] (.int x :: st) h 0 0) := (amWp_dec rfl dJ4_putStringAt_10 rfl).trans rfl
theorem wJ4_putStringAt_11 {ret F n h} {v0 v1 v2 st} : eJ4_putStringAt ret F (n + 1) 11 [v0, v1, v2] (st) h 0 0 = (amIsR v0 ∧ eJ4_putStringAt ret F n 12 [v0, v1, v2] (v0 :: st) h 0 0) := (amWp_dec rfl dJ4_putStringAt_11 rfl).trans rfl
theorem wJ4_putStringAt_12 {ret F n h} {v0 v1 v2 r0 r1 r2 a} : eJ4_putStringAt ret F (n + 1) 12 [v0, v1, v2] (.ref a :: r0 :: r1 :: r2 :: []) h 0 0 = (h.1 a = (0, 8) ∧ eJ4_putStringAt ret F n 15 [v0, v1, v2] (.int (h.2.1 a 1) :: r0 :: r1 :: r2 :: []) h 0 0) := (amWp_dec rfl dJ4_putStringAt_12 rfl).trans (amS4 (Nat.le_of_ble_eq_true rfl) (Nat.le_of_ble_eq_true rfl) (Nat.le_of_ble_eq_true rfl) (Nat.le_of_ble_eq_true rfl))
theorem wJ4_putStringAt_15 {ret F n h} {v0 v1 v2 x3 x2 x1 x0} : eJ4_putStringAt ret F (n + 1) 15 [v0, v1, v2] (.int x3 :: .int x2 :: .ref x1 :: .ref x0 :: []) h 0 0 = (h.1 x0 = (0, 7) ∧ tJ6_getBytes [.ref x0, .ref x1, .int x2, .int x3] h (fun v h => eJ4_putStringAt ret F n 18 [v0, v1, v2] (v.toList ++ ([])) h 0 0)) := (amWp_dec rfl dJ4_putStringAt_15 rfl).trans (amS4 (Nat.le_of_ble_eq_true rfl) (Nat.le_of_ble_eq_true rfl) (Nat.le_of_ble_eq_true rfl) (Nat.le_of_ble_eq_true rfl))
theorem wJ4_putStringAt_18 {ret F n h} {v0 v1 v2} : eJ4_putStringAt ret F (n + 1) 18 [v0, v1, v2] ([]) h 0 0 = (ret none h 0 0) := (amWp_dec rfl dJ4_putStringAt_18 rfl).trans (amTrue rfl)
theorem evJ4_putStringAt (l : Launch) (G : amG) : ∀ pc S i sz, amLk rJ4_putStringAt pc = some S → decode cJ4_putStringAt pc = .ok (i, sz) → amSiteP pc G l yJ4_putStringAt.cls yJ4_putStringAt.name yJ4_putStringAt.desc (amRm 3 0 0) i sz S.1 S.2.1 S.2.2.1 S.2.2.2 := amLk_ok (by
  refine List.forall_mem_cons.mpr ⟨⟨_, _, dJ4_putStringAt_2, amSite.P (amSiteU (C := RJ5) (metJ4_inflateIfNeededFor l G) rfl (by decide) (by decide) q724 q1724 (Or.inr (List.mem_of_getElem? (i := 43) rfl)) q726 q100 q727 ⟨_, rfl, rfl⟩ ⟨by decide +kernel, by decide +kernel, by decide +kernel⟩)⟩, ?_⟩
  refine List.forall_mem_cons.mpr ⟨⟨_, _, dJ4_putStringAt_7, amSite.P (amSiteGet ⟨_, rfl, by decide, Or.inl q623⟩)⟩, ?_⟩
  refine List.forall_mem_cons.mpr ⟨⟨_, _, dJ4_putStringAt_12, amSite.P (amSiteGet ⟨_, rfl, by decide, Or.inl q624⟩)⟩, ?_⟩
  refine List.forall_mem_cons.mpr ⟨⟨_, _, dJ4_putStringAt_15, amSite.P (amSiteV (C := RJ6) (metJ6_getBytes l G) rfl (by decide) (by decide) (lw_V q748 q749 q750 q102 q751) ⟨_, rfl, rfl⟩ ⟨rfl, by decide +kernel, by decide +kernel, by decide +kernel⟩)⟩, ?_⟩
  exact fun _ h => absurd h List.not_mem_nil)
theorem goJ4_putStringAt {ret F} (hF : amCld cJ4_putStringAt kJ4_putStringAt (amLk rJ4_putStringAt) none 0 0 ret F) (n : Nat) {pc ls st h k z} (q : sJ4_putStringAt ret F n pc ls st h k z) : F pc ls st h k z := hF.1 n pc ls st h k z q
theorem metJ4_putStringAt (l : Launch) (G : amG) : amMet l G yJ4_putStringAt (ws_ yJ4_putStringAt cJ4_putStringAt 3 none) 3 0 0 tJ4_putStringAt := by
  refine amMet_of (cut := kJ4_putStringAt) (by decide +kernel) (evJ4_putStringAt l G) ?_
  intro as h K hT
  match as, hT with
  | [.ref b, .int p, .ref s], ⟨a, v, n, m, cap, b1, b2, b3, h1, h2, h3, h4, h5, e, mn, cp, a24, hK⟩ =>
  refine ⟨Nat.le_of_ble_eq_true rfl, fun F hF => ?_⟩
  show F 0 [.ref b, .int p, .ref s] [] h 0 0
  obtain ⟨b, rfl⟩ : ∃ i : Nat, i = b := ⟨_, rfl⟩
  obtain ⟨s, rfl⟩ : ∃ i : Nat, i = s := ⟨_, rfl⟩
  subst e
  refine goJ4_putStringAt hF 60 ?_
  simp (disch := omega) only [wJ4_putStringAt_0, uJ4_putStringAt_0, wJ4_putStringAt_1, wJ4_putStringAt_2, wJ4_putStringAt_5, wJ4_putStringAt_6, wJ4_putStringAt_7, wJ4_putStringAt_10, wJ4_putStringAt_11, wJ4_putStringAt_12, wJ4_putStringAt_15, wJ4_putStringAt_18, amSI_1, amSI_2, amSI_3, amSI_s, amU_at, amIsR_ref, amIsR_null, amIsR_rf, amRf_some, amRf_none, amClr_int, amClr_ref, amClr_null, amClr_long, amClr_ra, amClr_rf, amFit_int, amFit_oref, amFit_aref, amFit_onull, amFit_anull, amOptSome, amOptNone, List.cons_append, List.nil_append, true_and, and_true, true_implies, not_true_eq_false, not_false_eq_true, false_implies, and_self, Nat.add_zero, Nat.zero_add, ne_eq, Prod.mk.injEq, amC01_0, amC01_1, amC01_nb, amNb0, amNb1, amTcpI_d, Nat.reduceLeDiff, Nat.reduceAdd, Nat.reduceSub, Nat.reduceEqDiff, Nat.le_refl, amN0le, b1, b2, b3, h1, h3, tJ4_inflateIfNeededFor_d]
  rw [tJ6_getBytes_d]
  refine ⟨v, n, m, cap, rfl, h1, h2, h3, h4, h5, rfl, mn, cp, a24, ?_⟩
  simp (disch := omega) only [wJ4_putStringAt_0, uJ4_putStringAt_0, wJ4_putStringAt_1, wJ4_putStringAt_2, wJ4_putStringAt_5, wJ4_putStringAt_6, wJ4_putStringAt_7, wJ4_putStringAt_10, wJ4_putStringAt_11, wJ4_putStringAt_12, wJ4_putStringAt_15, wJ4_putStringAt_18, amSI_1, amSI_2, amSI_3, amSI_s, amU_at, amIsR_ref, amIsR_null, amIsR_rf, amRf_some, amRf_none, amClr_int, amClr_ref, amClr_null, amClr_long, amClr_ra, amClr_rf, amFit_int, amFit_oref, amFit_aref, amFit_onull, amFit_anull, amOptSome, amOptNone, List.cons_append, List.nil_append, true_and, and_true, true_implies, not_true_eq_false, not_false_eq_true, false_implies, and_self, Nat.add_zero, Nat.zero_add, ne_eq, Prod.mk.injEq, amC01_0, amC01_1, amC01_nb, amNb0, amNb1, amTcpI_d, Nat.reduceLeDiff, Nat.reduceAdd, Nat.reduceSub, Nat.reduceEqDiff, Nat.le_refl, amN0le, b1]
  exact amRet.of (by decide) (by decide) hK
theorem tJ4_putStringAt_d {b s : Nat} {p : Int32} {h : amH} {K : Option Value → amH → Prop} : tJ4_putStringAt [.ref b, .int p, .ref s] h K = ∃ a v n m cap : Nat, h.1 b = (0, 8) ∧ h.2.2.2.1 b 0 = some a ∧ h.2.1 b 1 = nI 0 ∧ h.1 s = (0, 7) ∧ h.2.2.2.1 s 0 = some v ∧ h.2.1 s 1 = nI 0 ∧ h.1 v = (2, n) ∧ h.1 a = (2, cap) ∧ p = nI m ∧ m + n ≤ cap ∧ cap ≤ 1000 ∧ 24 ≤ a ∧ K none (amSI h (va_up h.2.1 a (va_cpy (h.2.1 v) (h.2.1 a) 0 m n))) := rfl
/-- the bytes written behind, the count put up -/
theorem sbDone {h0 h1 : amH} {n0 b v cap : Nat} {t u : List Nat} {m : Nat → Nat → Int32} (n24 : 24 ≤ n0) (nb : n0 ≤ b) (nv : n0 ≤ v) (bn : b < h1.2.2.2.2) (vn : v < h1.2.2.2.2) (hn : h0.2.2.2.2 ≤ h1.2.2.2.2) (hf : ∀ i, i < n0 → amSame h0 h1 i) (hV : SbV h1 b v cap t) (hc : t.length + u.length ≤ cap) (hu : ∀ c ∈ u, c < 128)
    (e1 : ∀ i : Nat, i ≠ b → i ≠ v → m i = h1.2.1 i) (e2 : m b 1 = h1.2.1 b 1) (e3 : m b 3 = nI (t.length + u.length)) (e4 : ∀ j, j < t.length → m v j = h1.2.1 v j) (e5 : ∀ j, j < u.length → m v (t.length + j) = nI (u.getD j 0)) : gFr h0 (amSI h1 m) n0 ∧ SbAt (amSI h1 m) n0 b (t ++ u) := by
  obtain ⟨h1', h2, h3, h4, h5, h6, h7, h8, h9⟩ := hV
  refine ⟨⟨hn, fun i hi => (hf i hi).tr ⟨rfl, e1 i (by omega) (by omega), rfl, rfl⟩⟩, v, cap, n24, nb, nv, bn, vn, h1', h2, e2.trans h3, by rw [List.length_append]; exact e3, h5, by rw [List.length_append]; exact hc, h7, fun i hi => ?_, fun c hc => ?_⟩
  · show m v i = _
    rw [List.length_append] at hi
    rw [appL_getD]
    by_cases y : i < t.length
    · rw [if_pos y, e4 i y]
      exact h8 i y
    · rw [if_neg y]
      have := e5 (i - t.length) (by omega)
      rw [show t.length + (i - t.length) = i by omega] at this
      exact this
  · rcases List.mem_append.mp hc with y | y
    · exact h9 c y
    · exact hu c y
def tJ4_append : amT := fun as h K => match as with
  | [.ref b, .ref s] => ∃ (n0 : Nat) (t u : List Nat), SbAt h n0 b t ∧ StIs h s u ∧ t.length + u.length ≤ 150 ∧ ∀ h', gFr h h' n0 → SbAt h' n0 b (t ++ u) → K (some (.ref b)) h'
  | _ => False
/-! java/lang/AbstractStringBuilder.append(Ljava/lang/String;)Ljava/lang/AbstractStringBuilder; -/
def kJ4_append : Nat → Bool := fun pc => pc == 24
def rJ4_append : List (Nat × amS) := [(10, 1, 0, 0, (amRecv 7 tJ6_length)), (16, 1, 0, 0, amTget 8 3), (21, 2, 1, 302, (amRecv 8 tJ4_ensureCapacityInternal)), (26, 1, 0, 0, amTget 8 3), (30, 3, 0, 0, (amRecv 8 tJ4_putStringAt)), (35, 1, 0, 0, amTget 8 3), (40, 2, 0, 0, amTput 8 3)]
def eJ4_append (ret : Option Value → amH → Nat → Nat → Prop) (F : amX) : Nat → amX := amWp cJ4_append kJ4_append (amLk rJ4_append) (some (FieldType.object "java/lang/AbstractStringBuilder")) 1 302 ret F
def sJ4_append (ret : Option Value → amH → Nat → Nat → Prop) (F : amX) : Nat → amX := amWs cJ4_append kJ4_append (amLk rJ4_append) (some (FieldType.object "java/lang/AbstractStringBuilder")) 1 302 ret F
theorem wJ4_append_0 {ret F n h k z} {v0 v1 v2 st} : eJ4_append ret F (n + 1) 0 [v0, v1, v2] (st) h k z = (amIsR v1 ∧ eJ4_append ret F n 1 [v0, v1, v2] (v1 :: st) h k z) := (amWp_dec rfl dJ4_append_0 rfl).trans rfl
theorem uJ4_append_0 {ret F n h k z} {v0 v1 v2 st} : sJ4_append ret F n 0 [v0, v1, v2] (st) h k z = (amIsR v1 ∧ eJ4_append ret F n 1 [v0, v1, v2] (v1 :: st) h k z) := (amWs_dec dJ4_append_0 rfl).trans rfl
theorem wJ4_append_1 {ret F n h k z} {v0 v1 v2 st b} : eJ4_append ret F (n + 1) 1 [v0, v1, v2] (.ref b :: st) h k z = (eJ4_append ret F n 9 [v0, v1, v2] (st) h k z) := (amWp_dec rfl dJ4_append_1 rfl).trans rfl
theorem wJ4_append_1b {ret F n h k z} {v0 v1 v2 st} : eJ4_append ret F (n + 1) 1 [v0, v1, v2] (.null :: st) h k z = (eJ4_append ret F n 4 [v0, v1, v2] (st) h k z) := (amWp_dec rfl dJ4_append_1 rfl).trans rfl
theorem wJ4_append_9 {ret F n h k z} {v0 v1 v2 st} : eJ4_append ret F (n + 1) 9 [v0, v1, v2] (st) h k z = (amIsR v1 ∧ eJ4_append ret F n 10 [v0, v1, v2] (v1 :: st) h k z) := (amWp_dec rfl dJ4_append_9 rfl).trans rfl
theorem wJ4_append_10 {ret F n h k z} {v0 v1 v2 x0} : eJ4_append ret F (n + 1) 10 [v0, v1, v2] (.ref x0 :: []) h k z = (k + 0 ≤ 1 ∧ z + 0 ≤ 302 ∧ h.1 x0 = (0, 7) ∧ tJ6_length [.ref x0] h (fun v h => eJ4_append ret F n 13 [v0, v1, v2] (v.toList ++ ([])) h (k + 0) (z + 0))) := (amWp_dec rfl dJ4_append_10 rfl).trans (amS2 (Nat.le_of_ble_eq_true rfl) (Nat.le_of_ble_eq_true rfl))
theorem wJ4_append_13 {ret F n h k z} {v0 v1 v2 st x} : eJ4_append ret F (n + 1) 13 [v0, v1, v2] (.int x :: st) h k z = (eJ4_append ret F n 14 [v0, amClr v1, .int x] (st) h k z) := (amWp_dec rfl dJ4_append_13 rfl).trans (amTrue (Nat.le_of_ble_eq_true rfl))
theorem wJ4_append_14 {ret F n h k z} {v0 v1 v2 st} : eJ4_append ret F (n + 1) 14 [v0, v1, v2] (st) h k z = (amIsR v0 ∧ eJ4_append ret F n 15 [v0, v1, v2] (v0 :: st) h k z) := (amWp_dec rfl dJ4_append_14 rfl).trans rfl
theorem wJ4_append_15 {ret F n h k z} {v0 v1 v2 st} : eJ4_append ret F (n + 1) 15 [v0, v1, v2] (st) h k z = (amIsR v0 ∧ eJ4_append ret F n 16 [v0, v1, v2] (v0 :: st) h k z) := (amWp_dec rfl dJ4_append_15 rfl).trans rfl
theorem wJ4_append_16 {ret F n h k z} {v0 v1 v2 r0 a} : eJ4_append ret F (n + 1) 16 [v0, v1, v2] (.ref a :: r0 :: []) h k z = (k + 0 ≤ 1 ∧ z + 0 ≤ 302 ∧ h.1 a = (0, 8) ∧ eJ4_append ret F n 19 [v0, v1, v2] (.int (h.2.1 a 3) :: r0 :: []) h (k + 0) (z + 0)) := (amWp_dec rfl dJ4_append_16 rfl).trans (amS2 (Nat.le_of_ble_eq_true rfl) (Nat.le_of_ble_eq_true rfl))
theorem wJ4_append_19 {ret F n h k z} {v0 v1 st x} : eJ4_append ret F (n + 1) 19 [v0, v1, .int x] (st) h k z = (eJ4_append ret F n 20 [v0, v1, .int x] (.int x :: st) h k z) := (amWp_dec rfl dJ4_append_19 rfl).trans rfl
theorem wJ4_append_20 {ret F n h k z} {v0 v1 v2 st y x} : eJ4_append ret F (n + 1) 20 [v0, v1, v2] (.int y :: .int x :: st) h k z = (eJ4_append ret F n 21 [v0, v1, v2] (.int (x + y) :: st) h k z) := (amWp_dec rfl dJ4_append_20 rfl).trans rfl
theorem wJ4_append_21 {ret F n h k z} {v0 v1 v2 x1 x0} : eJ4_append ret F (n + 1) 21 [v0, v1, v2] (.int x1 :: .ref x0 :: []) h k z = (k + 1 ≤ 1 ∧ z + 302 ≤ 302 ∧ h.1 x0 = (0, 8) ∧ tJ4_ensureCapacityInternal [.ref x0, .int x1] h (fun v h => eJ4_append ret F n 24 [v0, v1, v2] (v.toList ++ ([])) h (k + 1) (z + 302))) := (amWp_dec rfl dJ4_append_21 rfl).trans (amS2 (Nat.le_of_ble_eq_true rfl) (Nat.le_of_ble_eq_true rfl))
theorem wJ4_append_24 {ret F n ls st h k z} : eJ4_append ret F (n + 1) 24 ls st h k z = F 24 ls st h k z := amWp_cut rfl
theorem uJ4_append_24 {ret F n h k z} {v0 v1 v2 st} : sJ4_append ret F n 24 [v0, v1, v2] (st) h k z = (amIsR v0 ∧ eJ4_append ret F n 25 [v0, v1, v2] (v0 :: st) h k z) := (amWs_dec dJ4_append_24 rfl).trans rfl
theorem wJ4_append_25 {ret F n h k z} {v0 v1 v2 st} : eJ4_append ret F (n + 1) 25 [v0, v1, v2] (st) h k z = (amIsR v0 ∧ eJ4_append ret F n 26 [v0, v1, v2] (v0 :: st) h k z) := (amWp_dec rfl dJ4_append_25 rfl).trans rfl
theorem wJ4_append_26 {ret F n h k z} {v0 v1 v2 r0 a} : eJ4_append ret F (n + 1) 26 [v0, v1, v2] (.ref a :: r0 :: []) h k z = (k + 0 ≤ 1 ∧ z + 0 ≤ 302 ∧ h.1 a = (0, 8) ∧ eJ4_append ret F n 29 [v0, v1, v2] (.int (h.2.1 a 3) :: r0 :: []) h (k + 0) (z + 0)) := (amWp_dec rfl dJ4_append_26 rfl).trans (amS2 (Nat.le_of_ble_eq_true rfl) (Nat.le_of_ble_eq_true rfl))
theorem wJ4_append_29 {ret F n h k z} {v0 v1 v2 st} : eJ4_append ret F (n + 1) 29 [v0, v1, v2] (st) h k z = (amIsR v1 ∧ eJ4_append ret F n 30 [v0, v1, v2] (v1 :: st) h k z) := (amWp_dec rfl dJ4_append_29 rfl).trans rfl
theorem wJ4_append_30 {ret F n h k z} {v0 v1 v2 x2 x1 x0} : eJ4_append ret F (n + 1) 30 [v0, v1, v2] (.ref x2 :: .int x1 :: .ref x0 :: []) h k z = (k + 0 ≤ 1 ∧ z + 0 ≤ 302 ∧ h.1 x0 = (0, 8) ∧ tJ4_putStringAt [.ref x0, .int x1, .ref x2] h (fun v h => eJ4_append ret F n 33 [v0, v1, v2] (v.toList ++ ([])) h (k + 0) (z + 0))) := (amWp_dec rfl dJ4_append_30 rfl).trans (amS2 (Nat.le_of_ble_eq_true rfl) (Nat.le_of_ble_eq_true rfl))
theorem wJ4_append_33 {ret F n h k z} {v0 v1 v2 st} : eJ4_append ret F (n + 1) 33 [v0, v1, v2] (st) h k z = (amIsR v0 ∧ eJ4_append ret F n 34 [v0, v1, v2] (v0 :: st) h k z) := (amWp_dec rfl dJ4_append_33 rfl).trans rfl
theorem wJ4_append_34 {ret F n h k z} {v0 v1 v2 st b} : eJ4_append ret F (n + 1) 34 [v0, v1, v2] (.ref b :: st) h k z = (eJ4_append ret F n 35 [v0, v1, v2] (.ref b :: .ref b :: st) h k z) := (amWp_dec rfl dJ4_append_34 rfl).trans (amTrue rfl)
theorem wJ4_append_35 {ret F n h k z} {v0 v1 v2 r0 a} : eJ4_append ret F (n + 1) 35 [v0, v1, v2] (.ref a :: r0 :: []) h k z = (k + 0 ≤ 1 ∧ z + 0 ≤ 302 ∧ h.1 a = (0, 8) ∧ eJ4_append ret F n 38 [v0, v1, v2] (.int (h.2.1 a 3) :: r0 :: []) h (k + 0) (z + 0)) := (amWp_dec rfl dJ4_append_35 rfl).trans (amS2 (Nat.le_of_ble_eq_true rfl) (Nat.le_of_ble_eq_true rfl))
theorem wJ4_append_38 {ret F n h k z} {v0 v1 st x} : eJ4_append ret F (n + 1) 38 [v0, v1, .int x] (st) h k z = (eJ4_append ret F n 39 [v0, v1, .int x] (.int x :: st) h k z) := (amWp_dec rfl dJ4_append_38 rfl).trans rfl
theorem wJ4_append_39 {ret F n h k z} {v0 v1 v2 st y x} : eJ4_append ret F (n + 1) 39 [v0, v1, v2] (.int y :: .int x :: st) h k z = (eJ4_append ret F n 40 [v0, v1, v2] (.int (x + y) :: st) h k z) := (amWp_dec rfl dJ4_append_39 rfl).trans rfl
theorem wJ4_append_40 {ret F n h k z} {v0 v1 v2 x a} : eJ4_append ret F (n + 1) 40 [v0, v1, v2] (.int x :: .ref a :: []) h k z = (k + 0 ≤ 1 ∧ z + 0 ≤ 302 ∧ h.1 a = (0, 8) ∧ amN0 ≤ a ∧ amFit .int (.int x) ∧ eJ4_append ret F n 43 [v0, v1, v2] ([]) (amSI h (amU h.2.1 a 3 x)) (k + 0) (z + 0)) := (amWp_dec rfl dJ4_append_40 rfl).trans (amS2 (Nat.le_of_ble_eq_true rfl) (Nat.le_of_ble_eq_true rfl))
theorem wJ4_append_43 {ret F n h k z} {v0 v1 v2 st} : eJ4_append ret F (n + 1) 43 [v0, v1, v2] (st) h k z = (amIsR v0 ∧ eJ4_append ret F n 44 [v0, v1, v2] (v0 :: st) h k z) := (amWp_dec rfl dJ4_append_43 rfl).trans rfl
theorem wJ4_append_44 {ret F n h k z} {v0 v1 v2 w} : eJ4_append ret F (n + 1) 44 [v0, v1, v2] ([w]) h k z = (amIsR w ∧ ret (some w) h k z) := (amWp_dec rfl dJ4_append_44 rfl).trans (amTrue ⟨_, rfl, rfl⟩)
theorem evJ4_append (l : Launch) (G : amG) : ∀ pc S i sz, amLk rJ4_append pc = some S → decode cJ4_append pc = .ok (i, sz) → amSiteP pc G l yJ4_append.cls yJ4_append.name yJ4_append.desc (amRm 4 1 302) i sz S.1 S.2.1 S.2.2.1 S.2.2.2 := amLk_ok (by
  refine List.forall_mem_cons.mpr ⟨⟨_, _, dJ4_append_10, amSite.P (amSiteV (C := RJ6) (metJ6_length l G) rfl (by decide) (by decide) (lw_V q711 q712 q713 q102 q714) ⟨_, rfl, rfl⟩ ⟨rfl, by decide +kernel, by decide +kernel, by decide +kernel⟩)⟩, ?_⟩
  refine List.forall_mem_cons.mpr ⟨⟨_, _, dJ4_append_16, amSite.P (amSiteGet ⟨_, rfl, by decide, Or.inl q626⟩)⟩, ?_⟩
  refine List.forall_mem_cons.mpr ⟨⟨_, _, dJ4_append_21, amSite.P (amSiteU (C := RJ5) (metJ4_ensureCapacityInternal l G) rfl (by decide) (by decide) q649 q1721 (Or.inr (List.mem_of_getElem? (i := 40) rfl)) q651 q100 q652 ⟨_, rfl, rfl⟩ ⟨by decide +kernel, by decide +kernel, by decide +kernel⟩)⟩, ?_⟩
  refine List.forall_mem_cons.mpr ⟨⟨_, _, dJ4_append_26, amSite.P (amSiteGet ⟨_, rfl, by decide, Or.inl q626⟩)⟩, ?_⟩
  refine List.forall_mem_cons.mpr ⟨⟨_, _, dJ4_append_30, amSite.P (amSiteU (C := RJ5) (metJ4_putStringAt l G) rfl (by decide) (by decide) q720 q1723 (Or.inr (List.mem_of_getElem? (i := 42) rfl)) q722 q100 q723 ⟨_, rfl, rfl⟩ ⟨by decide +kernel, by decide +kernel, by decide +kernel⟩)⟩, ?_⟩
  refine List.forall_mem_cons.mpr ⟨⟨_, _, dJ4_append_35, amSite.P (amSiteGet ⟨_, rfl, by decide, Or.inl q626⟩)⟩, ?_⟩
  refine List.forall_mem_cons.mpr ⟨⟨_, _, dJ4_append_40, amSite.P (amSitePut ⟨_, rfl, by decide, Or.inl q626⟩ (fun q h => by cases h; rfl))⟩, ?_⟩
  exact fun _ h => absurd h List.not_mem_nil)
theorem goJ4_append {ret F} (hF : amCld cJ4_append kJ4_append (amLk rJ4_append) (some (FieldType.object "java/lang/AbstractStringBuilder")) 1 302 ret F) (n : Nat) {pc ls st h k z} (q : sJ4_append ret F n pc ls st h k z) : F pc ls st h k z := hF.1 n pc ls st h k z q
theorem metJ4_append (l : Launch) (G : amG) : amMet l G yJ4_append (ws_ yJ4_append cJ4_append 3 (some (FieldType.object "java/lang/AbstractStringBuilder"))) 4 1 302 tJ4_append := by
  refine amMet_of (cut := kJ4_append) (by decide +kernel) (evJ4_append l G) ?_
  intro as h K hT
  match as, hT with
  | [.ref b, .ref s], ⟨n0, t, u, ⟨v, cap, n24, nb, nv, bn, vn, hV⟩, hs, tu, hK⟩ =>
  refine ⟨Nat.le_of_ble_eq_true rfl, fun F hF => ?_⟩
  show F 0 [.ref b, .ref s, .retAddr 0] [] h 0 0
  obtain ⟨b, rfl⟩ : ∃ i : Nat, i = b := ⟨_, rfl⟩
  obtain ⟨s, rfl⟩ : ∃ i : Nat, i = s := ⟨_, rfl⟩
  have hs0 := hs
  obtain ⟨s1, s2, w, s3, s4, s5, s6, s7, s8, s9⟩ := hs0
  have b1 := hV.1
  have b4 := hV.2.2.2.1
  refine goJ4_append hF 60 ?_
  simp (disch := omega) only [wJ4_append_0, uJ4_append_0, wJ4_append_1, wJ4_append_1b, wJ4_append_9, wJ4_append_10, wJ4_append_13, wJ4_append_14, wJ4_append_15, wJ4_append_16, wJ4_append_19, wJ4_append_20, wJ4_append_21, wJ4_append_24, uJ4_append_24, wJ4_append_25, wJ4_append_26, wJ4_append_29, wJ4_append_30, wJ4_append_33, wJ4_append_34, wJ4_append_35, wJ4_append_38, wJ4_append_39, wJ4_append_40, wJ4_append_43, wJ4_append_44, amSI_1, amSI_2, amSI_3, amSI_s, amU_at, amIsR_ref, amIsR_null, amIsR_rf, amRf_some, amRf_none, amClr_int, amClr_ref, amClr_null, amClr_long, amClr_ra, amClr_rf, amFit_int, amFit_oref, amFit_aref, amFit_onull, amFit_anull, amOptSome, amOptNone, List.cons_append, List.nil_append, true_and, and_true, true_implies, not_true_eq_false, not_false_eq_true, false_implies, and_self, Nat.add_zero, Nat.zero_add, ne_eq, Prod.mk.injEq, amC01_0, amC01_1, amC01_nb, amNb0, amNb1, amTcpI_d, Nat.reduceLeDiff, Nat.reduceAdd, Nat.reduceSub, Nat.reduceEqDiff, Nat.le_refl, amN0le, amLeI, amLtI, amEqI, amLe0, amGt0, amEq0, amNotPosI, amGe0, amVI, amCl_nI, amAdd, amSub, amMul, b1, b4, s1]
  rw [tJ6_length_d]
  refine ⟨w, u.length, s1, s4, s5, s6, ?_⟩
  simp (disch := omega) only [wJ4_append_0, uJ4_append_0, wJ4_append_1, wJ4_append_1b, wJ4_append_9, wJ4_append_10, wJ4_append_13, wJ4_append_14, wJ4_append_15, wJ4_append_16, wJ4_append_19, wJ4_append_20, wJ4_append_21, wJ4_append_24, uJ4_append_24, wJ4_append_25, wJ4_append_26, wJ4_append_29, wJ4_append_30, wJ4_append_33, wJ4_append_34, wJ4_append_35, wJ4_append_38, wJ4_append_39, wJ4_append_40, wJ4_append_43, wJ4_append_44, amSI_1, amSI_2, amSI_3, amSI_s, amU_at, amIsR_ref, amIsR_null, amIsR_rf, amRf_some, amRf_none, amClr_int, amClr_ref, amClr_null, amClr_long, amClr_ra, amClr_rf, amFit_int, amFit_oref, amFit_aref, amFit_onull, amFit_anull, amOptSome, amOptNone, List.cons_append, List.nil_append, true_and, and_true, true_implies, not_true_eq_false, not_false_eq_true, false_implies, and_self, Nat.add_zero, Nat.zero_add, ne_eq, Prod.mk.injEq, amC01_0, amC01_1, amC01_nb, amNb0, amNb1, amTcpI_d, Nat.reduceLeDiff, Nat.reduceAdd, Nat.reduceSub, Nat.reduceEqDiff, Nat.le_refl, amN0le, amLeI, amLtI, amEqI, amLe0, amGt0, amEq0, amNotPosI, amGe0, amVI, amCl_nI, amAdd, amSub, amMul, b1, b4, s1]
  rw [tJ4_ensureCapacityInternal_d]
  refine ⟨n0, v, cap, t.length + u.length, t, n24, nb, nv, bn, vn, hV, rfl, by omega, tu, fun h1 v1 cap1 hn hf nv1 vn1 hV1 mc => ?_⟩
  have hs1 : StIs h1 s u := hs.same hn (fun i hi hk => hf i hi (fun e => by
    rw [e, b1] at hk
    rcases hk with z | z
    · exact z rfl
    · exact absurd z (by decide)))
  obtain ⟨r1, r2, w1, r3, r4, r5, r6, r7, r8, r9⟩ := hs1
  have hV1' := hV1
  obtain ⟨c1, c2, c3, c4, c5, c6, c7, c8, c9⟩ := hV1'
  have vb := hV1.ne
  have b24 : (amN0 ≤ b) = True := eq_true (show 24 ≤ b by omega)
  refine goJ4_append hF 60 ?_
  simp (disch := omega) only [wJ4_append_0, uJ4_append_0, wJ4_append_1, wJ4_append_1b, wJ4_append_9, wJ4_append_10, wJ4_append_13, wJ4_append_14, wJ4_append_15, wJ4_append_16, wJ4_append_19, wJ4_append_20, wJ4_append_21, wJ4_append_24, uJ4_append_24, wJ4_append_25, wJ4_append_26, wJ4_append_29, wJ4_append_30, wJ4_append_33, wJ4_append_34, wJ4_append_35, wJ4_append_38, wJ4_append_39, wJ4_append_40, wJ4_append_43, wJ4_append_44, amSI_1, amSI_2, amSI_3, amSI_s, amU_at, amIsR_ref, amIsR_null, amIsR_rf, amRf_some, amRf_none, amClr_int, amClr_ref, amClr_null, amClr_long, amClr_ra, amClr_rf, amFit_int, amFit_oref, amFit_aref, amFit_onull, amFit_anull, amOptSome, amOptNone, List.cons_append, List.nil_append, true_and, and_true, true_implies, not_true_eq_false, not_false_eq_true, false_implies, and_self, Nat.add_zero, Nat.zero_add, ne_eq, Prod.mk.injEq, amC01_0, amC01_1, amC01_nb, amNb0, amNb1, amTcpI_d, Nat.reduceLeDiff, Nat.reduceAdd, Nat.reduceSub, Nat.reduceEqDiff, Nat.le_refl, amN0le, c1, c4]
  rw [tJ4_putStringAt_d]
  refine ⟨v1, w1, u.length, t.length, cap1, c1, c2, c3, r1, r4, r5, r6, c5, rfl, mc, by omega, by omega, ?_⟩
  have g : va_up h1.2.1 v1 (va_cpy (h1.2.1 w1) (h1.2.1 v1) 0 t.length u.length) b 3 = nI t.length := by
    rw [up_ne (Ne.symm vb)]
    exact c4
  have wb : w1 ≠ b := fun e => by rw [e, c1] at r6; exact absurd (congrArg Prod.fst r6) (by decide : (0 : Nat) ≠ 2)
  have fin := sbDone (h0 := h) (h1 := h1) (u := u) (m := amU (va_up h1.2.1 v1 (va_cpy (h1.2.1 w1) (h1.2.1 v1) 0 t.length u.length)) b 3 (nI (t.length + u.length))) n24 nb nv1 (by omega) vn1 hn (fun i hi => hf i (by omega) (by omega)) hV1 mc r8 (fun i a1 a2 => by
    rw [amU_neR a1, up_ne a2]) (by
    rw [amU_nj (by decide), up_ne (Ne.symm vb)]) (by rw [amU_at]) (fun j hj => by
    rw [amU_ne vb, up_at]
    unfold va_cpy
    rw [if_neg (by omega)]) (fun j hj => by
    rw [amU_ne vb, up_at]
    unfold va_cpy
    rw [if_pos (by omega), Nat.zero_add, Nat.add_sub_cancel_left]
    exact r7 j hj)
  have key := hK _ fin.1 fin.2
  simp (disch := omega) only [wJ4_append_0, uJ4_append_0, wJ4_append_1, wJ4_append_1b, wJ4_append_9, wJ4_append_10, wJ4_append_13, wJ4_append_14, wJ4_append_15, wJ4_append_16, wJ4_append_19, wJ4_append_20, wJ4_append_21, wJ4_append_24, uJ4_append_24, wJ4_append_25, wJ4_append_26, wJ4_append_29, wJ4_append_30, wJ4_append_33, wJ4_append_34, wJ4_append_35, wJ4_append_38, wJ4_append_39, wJ4_append_40, wJ4_append_43, wJ4_append_44, amSI_1, amSI_2, amSI_3, amSI_s, amU_at, amIsR_ref, amIsR_null, amIsR_rf, amRf_some, amRf_none, amClr_int, amClr_ref, amClr_null, amClr_long, amClr_ra, amClr_rf, amFit_int, amFit_oref, amFit_aref, amFit_onull, amFit_anull, amOptSome, amOptNone, List.cons_append, List.nil_append, true_and, and_true, true_implies, not_true_eq_false, not_false_eq_true, false_implies, and_self, Nat.add_zero, Nat.zero_add, ne_eq, Prod.mk.injEq, amC01_0, amC01_1, amC01_nb, amNb0, amNb1, amTcpI_d, Nat.reduceLeDiff, Nat.reduceAdd, Nat.reduceSub, Nat.reduceEqDiff, Nat.le_refl, amN0le, amLeI, amLtI, amEqI, amLe0, amGt0, amEq0, amNotPosI, amGe0, amVI, amCl_nI, amAdd, amSub, amMul, c1, g, b24]
  exact amRet.of (by decide) (by decide) key
theorem tJ4_append_d {b s : Nat} {h : amH} {K : Option Value → amH → Prop} : tJ4_append [.ref b, .ref s] h K = ∃ (n0 : Nat) (t u : List Nat), SbAt h n0 b t ∧ StIs h s u ∧ t.length + u.length ≤ 150 ∧ ∀ h', gFr h h' n0 → SbAt h' n0 b (t ++ u) → K (some (.ref b)) h' := rfl
theorem SbAt.cl {h : amH} {n0 b : Nat} {t : List Nat} (q : SbAt h n0 b t) : h.1 b = (0, 8) := by
  obtain ⟨v, cap, _, _, _, _, _, hV⟩ := q
  exact hV.1
def tJ5_append : amT := fun as h K => match as with
  | [.ref b, .ref s] => ∃ (n0 : Nat) (t u : List Nat), SbAt h n0 b t ∧ StIs h s u ∧ t.length + u.length ≤ 150 ∧ ∀ h', gFr h h' n0 → SbAt h' n0 b (t ++ u) → K (some (.ref b)) h'
  | _ => False
/-! java/lang/StringBuilder.append(Ljava/lang/String;)Ljava/lang/StringBuilder; -/
def kJ5_append : Nat → Bool := fun pc => pc == 5
def rJ5_append : List (Nat × amS) := [(2, 2, 1, 302, (amRecv 8 tJ4_append))]
def eJ5_append (ret : Option Value → amH → Nat → Nat → Prop) (F : amX) : Nat → amX := amWp cJ5_append kJ5_append (amLk rJ5_append) (some (FieldType.object "java/lang/StringBuilder")) 1 302 ret F
def sJ5_append (ret : Option Value → amH → Nat → Nat → Prop) (F : amX) : Nat → amX := amWs cJ5_append kJ5_append (amLk rJ5_append) (some (FieldType.object "java/lang/StringBuilder")) 1 302 ret F
theorem wJ5_append_0 {ret F n h k z} {v0 v1 st} : eJ5_append ret F (n + 1) 0 [v0, v1] (st) h k z = (amIsR v0 ∧ eJ5_append ret F n 1 [v0, v1] (v0 :: st) h k z) := (amWp_dec rfl dJ5_append_0 rfl).trans rfl
theorem uJ5_append_0 {ret F n h k z} {v0 v1 st} : sJ5_append ret F n 0 [v0, v1] (st) h k z = (amIsR v0 ∧ eJ5_append ret F n 1 [v0, v1] (v0 :: st) h k z) := (amWs_dec dJ5_append_0 rfl).trans rfl
theorem wJ5_append_1 {ret F n h k z} {v0 v1 st} : eJ5_append ret F (n + 1) 1 [v0, v1] (st) h k z = (amIsR v1 ∧ eJ5_append ret F n 2 [v0, v1] (v1 :: st) h k z) := (amWp_dec rfl dJ5_append_1 rfl).trans rfl
theorem wJ5_append_2 {ret F n h k z} {v0 v1 x1 x0} : eJ5_append ret F (n + 1) 2 [v0, v1] (.ref x1 :: .ref x0 :: []) h k z = (k + 1 ≤ 1 ∧ z + 302 ≤ 302 ∧ h.1 x0 = (0, 8) ∧ tJ4_append [.ref x0, .ref x1] h (fun v h => eJ5_append ret F n 5 [v0, v1] (v.toList ++ ([])) h (k + 1) (z + 302))) := (amWp_dec rfl dJ5_append_2 rfl).trans (amS2 (Nat.le_of_ble_eq_true rfl) (Nat.le_of_ble_eq_true rfl))
theorem wJ5_append_5 {ret F n ls st h k z} : eJ5_append ret F (n + 1) 5 ls st h k z = F 5 ls st h k z := amWp_cut rfl
theorem uJ5_append_5 {ret F n h k z} {v0 v1 st b} : sJ5_append ret F n 5 [v0, v1] (.ref b :: st) h k z = (eJ5_append ret F n 6 [v0, v1] (st) h k z) := (amWs_dec dJ5_append_5 rfl).trans (amTrue rfl)
theorem wJ5_append_6 {ret F n h k z} {v0 v1 st} : eJ5_append ret F (n + 1) 6 [v0, v1] (st) h k z = (amIsR v0 ∧ eJ5_append ret F n 7 [v0, v1] (v0 :: st) h k z) := (amWp_dec rfl dJ5_append_6 rfl).trans rfl
theorem wJ5_append_7 {ret F n h k z} {v0 v1 w} : eJ5_append ret F (n + 1) 7 [v0, v1] ([w]) h k z = (amIsR w ∧ ret (some w) h k z) := (amWp_dec rfl dJ5_append_7 rfl).trans (amTrue ⟨_, rfl, rfl⟩)
theorem evJ5_append (l : Launch) (G : amG) : ∀ pc S i sz, amLk rJ5_append pc = some S → decode cJ5_append pc = .ok (i, sz) → amSiteP pc G l yJ5_append.cls yJ5_append.name yJ5_append.desc (amRm 5 1 302) i sz S.1 S.2.1 S.2.2.1 S.2.2.2 := amLk_ok (by
  refine List.forall_mem_cons.mpr ⟨⟨_, _, dJ5_append_2, amSite.P (amSiteSU (C := RJ5) (metJ4_append l G) rfl (by decide) (by decide) q642 q1719 q635 q643 q100 q644 ⟨_, rfl, rfl⟩ ⟨by decide +kernel, by decide +kernel⟩)⟩, ?_⟩
  exact fun _ h => absurd h List.not_mem_nil)
theorem goJ5_append {ret F} (hF : amCld cJ5_append kJ5_append (amLk rJ5_append) (some (FieldType.object "java/lang/StringBuilder")) 1 302 ret F) (n : Nat) {pc ls st h k z} (q : sJ5_append ret F n pc ls st h k z) : F pc ls st h k z := hF.1 n pc ls st h k z q
theorem metJ5_append (l : Launch) (G : amG) : amMet l G yJ5_append (ws_ yJ5_append cJ5_append 2 (some (FieldType.object "java/lang/StringBuilder"))) 5 1 302 tJ5_append := by
  refine amMet_of (cut := kJ5_append) (by decide +kernel) (evJ5_append l G) ?_
  intro as h K hT
  match as, hT with
  | [.ref b, .ref s], ⟨n0, t, u, hB, hs, tu, hK⟩ =>
  refine ⟨Nat.le_of_ble_eq_true rfl, fun F hF => ?_⟩
  show F 0 [.ref b, .ref s] [] h 0 0
  obtain ⟨b, rfl⟩ : ∃ i : Nat, i = b := ⟨_, rfl⟩
  obtain ⟨s, rfl⟩ : ∃ i : Nat, i = s := ⟨_, rfl⟩
  have b1 := hB.cl
  refine goJ5_append hF 60 ?_
  simp (disch := omega) only [wJ5_append_0, uJ5_append_0, wJ5_append_1, wJ5_append_2, wJ5_append_5, uJ5_append_5, wJ5_append_6, wJ5_append_7, amSI_1, amSI_2, amSI_3, amSI_s, amU_at, amIsR_ref, amIsR_null, amIsR_rf, amRf_some, amRf_none, amClr_int, amClr_ref, amClr_null, amClr_long, amClr_ra, amClr_rf, amFit_int, amFit_oref, amFit_aref, amFit_onull, amFit_anull, amOptSome, amOptNone, List.cons_append, List.nil_append, true_and, and_true, true_implies, not_true_eq_false, not_false_eq_true, false_implies, and_self, Nat.add_zero, Nat.zero_add, ne_eq, Prod.mk.injEq, amC01_0, amC01_1, amC01_nb, amNb0, amNb1, amTcpI_d, Nat.reduceLeDiff, Nat.reduceAdd, Nat.reduceSub, Nat.reduceEqDiff, Nat.le_refl, amN0le, b1]
  rw [tJ4_append_d]
  refine ⟨n0, t, u, hB, hs, tu, fun h' f1 f2 => ?_⟩
  have key := hK h' f1 f2
  refine goJ5_append hF 60 ?_
  simp (disch := omega) only [wJ5_append_0, uJ5_append_0, wJ5_append_1, wJ5_append_2, wJ5_append_5, uJ5_append_5, wJ5_append_6, wJ5_append_7, amSI_1, amSI_2, amSI_3, amSI_s, amU_at, amIsR_ref, amIsR_null, amIsR_rf, amRf_some, amRf_none, amClr_int, amClr_ref, amClr_null, amClr_long, amClr_ra, amClr_rf, amFit_int, amFit_oref, amFit_aref, amFit_onull, amFit_anull, amOptSome, amOptNone, List.cons_append, List.nil_append, true_and, and_true, true_implies, not_true_eq_false, not_false_eq_true, false_implies, and_self, Nat.add_zero, Nat.zero_add, ne_eq, Prod.mk.injEq, amC01_0, amC01_1, amC01_nb, amNb0, amNb1, amTcpI_d, Nat.reduceLeDiff, Nat.reduceAdd, Nat.reduceSub, Nat.reduceEqDiff, Nat.le_refl, amN0le, b1]
  exact amRet.of (by decide) (by decide) key
theorem tJ5_append_d {b s : Nat} {h : amH} {K : Option Value → amH → Prop} : tJ5_append [.ref b, .ref s] h K = ∃ (n0 : Nat) (t u : List Nat), SbAt h n0 b t ∧ StIs h s u ∧ t.length + u.length ≤ 150 ∧ ∀ h', gFr h h' n0 → SbAt h' n0 b (t ++ u) → K (some (.ref b)) h' := rfl
