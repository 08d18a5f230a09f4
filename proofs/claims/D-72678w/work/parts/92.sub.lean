/-! a piece of the tape, as a string; what lies there for the reader -/
set_option maxRecDepth 100000
theorem take_succD {t : List Nat} {p j : Nat} (h : p + j < t.length) : (t.drop p).take (j + 1) = (t.drop p).take j ++ [t.getD (p + j) 0] := by
  rw [List.take_succ, List.getElem?_drop, List.getD_eq_getElem?_getD, List.getElem?_eq_getElem h]
  rfl
def tX4_subSequence : amT := fun as h K => match as with
  | [.ref a, .int x, .int y] => ∃ (t : List Nat) (p q : Nat), a = (43 : Nat) ∧ LtIs h t ∧ 143 ≤ h.2.2.2.2 ∧ x = nI p ∧ y = nI q ∧ p ≤ q ∧ q ≤ t.length ∧ ∀ h' s', gFr h h' h.2.2.2.2 → h.2.2.2.2 ≤ s' → StIs h' s' ((t.drop p).take (q - p)) → h'.2.1 s' 2 = nI 0 → h'.2.1 s' 3 = nI 0 → K (some (.ref s')) h'
  | _ => False
/-! ReadingStages$Letters.subSequence(II)Ljava/lang/CharSequence; -/
def kX4_subSequence : Nat → Bool := fun pc => pc == 7 || pc == 11 || pc == 28 || pc == 39
def rX4_subSequence : List (Nat × amS) := [(0, 0, 1, 4, amTnew 8), (4, 1, 1, 16, (amIsRef tJ5_init)), (19, 1, 0, 0, amTget 4 0), (25, 2, 1, 302, (amRecv 8 tJ5_append_3)), (36, 1, 2, 404, (amRecv 8 tJ5_toString))]
def eX4_subSequence (ret : Option Value → amH → Nat → Nat → Prop) (F : amX) : Nat → amX := amWp cX4_subSequence kX4_subSequence (amLk rX4_subSequence) (some (FieldType.object "java/lang/CharSequence")) 100 28000 ret F
def sX4_subSequence (ret : Option Value → amH → Nat → Nat → Prop) (F : amX) : Nat → amX := amWs cX4_subSequence kX4_subSequence (amLk rX4_subSequence) (some (FieldType.object "java/lang/CharSequence")) 100 28000 ret F
theorem wX4_subSequence_0 {ret F n h k z} {v0 v1 v2 v3 v4} : eX4_subSequence ret F (n + 1) 0 [v0, v1, v2, v3, v4] ([]) h k z = (k + 1 ≤ 100 ∧ z + 4 ≤ 28000 ∧ eX4_subSequence ret F n 3 [v0, v1, v2, v3, v4] (.ref h.2.2.2.2 :: []) (amNew h (0, 8)) (k + 1) (z + 4)) := (amWp_dec rfl dX4_subSequence_0 rfl).trans (amS2 (Nat.le_of_ble_eq_true rfl) (Nat.le_of_ble_eq_true rfl))
theorem uX4_subSequence_0 {ret F n h k z} {v0 v1 v2 v3 v4} : sX4_subSequence ret F n 0 [v0, v1, v2, v3, v4] ([]) h k z = (k + 1 ≤ 100 ∧ z + 4 ≤ 28000 ∧ eX4_subSequence ret F n 3 [v0, v1, v2, v3, v4] (.ref h.2.2.2.2 :: []) (amNew h (0, 8)) (k + 1) (z + 4)) := (amWs_dec dX4_subSequence_0 rfl).trans (amS2 (Nat.le_of_ble_eq_true rfl) (Nat.le_of_ble_eq_true rfl))
theorem wX4_subSequence_3 {ret F n h k z} {v0 v1 v2 v3 v4 st b} : eX4_subSequence ret F (n + 1) 3 [v0, v1, v2, v3, v4] (.ref b :: st) h k z = (eX4_subSequence ret F n 4 [v0, v1, v2, v3, v4] (.ref b :: .ref b :: st) h k z) := (amWp_dec rfl dX4_subSequence_3 rfl).trans (amTrue rfl)
theorem wX4_subSequence_4 {ret F n h k z} {v0 v1 v2 v3 v4 x0 r0} : eX4_subSequence ret F (n + 1) 4 [v0, v1, v2, v3, v4] (.ref x0 :: r0 :: []) h k z = (k + 1 ≤ 100 ∧ z + 16 ≤ 28000 ∧ tJ5_init [.ref x0] h (fun v h => eX4_subSequence ret F n 7 [v0, v1, v2, v3, v4] (v.toList ++ (r0 :: [])) h (k + 1) (z + 16))) := (amWp_dec rfl dX4_subSequence_4 rfl).trans (amS2 (Nat.le_of_ble_eq_true rfl) (Nat.le_of_ble_eq_true rfl))
theorem wX4_subSequence_7 {ret F n ls st h k z} : eX4_subSequence ret F (n + 1) 7 ls st h k z = F 7 ls st h k z := amWp_cut rfl
theorem uX4_subSequence_7 {ret F n h k z} {v0 v1 v2 v3 v4 w st} : sX4_subSequence ret F n 7 [v0, v1, v2, v3, v4] (w :: st) h k z = (amIsR w ∧ eX4_subSequence ret F n 8 [v0, v1, amClr v2, w, v4] (st) h k z) := (amWs_dec dX4_subSequence_7 rfl).trans (amTrue2 (Nat.le_of_ble_eq_true rfl))
theorem wX4_subSequence_8 {ret F n h k z} {v0 v2 v3 v4 st x} : eX4_subSequence ret F (n + 1) 8 [v0, .int x, v2, v3, v4] (st) h k z = (eX4_subSequence ret F n 9 [v0, .int x, v2, v3, v4] (.int x :: st) h k z) := (amWp_dec rfl dX4_subSequence_8 rfl).trans rfl
theorem wX4_subSequence_9 {ret F n h k z} {v0 v1 v2 v3 v4 st x} : eX4_subSequence ret F (n + 1) 9 [v0, v1, v2, v3, v4] (.int x :: st) h k z = (eX4_subSequence ret F n 11 [v0, v1, v2, amClr v3, .int x] (st) h k z) := (amWp_dec rfl dX4_subSequence_9 rfl).trans (amTrue (Nat.le_of_ble_eq_true rfl))
theorem wX4_subSequence_11 {ret F n ls st h k z} : eX4_subSequence ret F (n + 1) 11 ls st h k z = F 11 ls st h k z := amWp_cut rfl
theorem uX4_subSequence_11 {ret F n h k z} {v0 v1 v2 v3 st x} : sX4_subSequence ret F n 11 [v0, v1, v2, v3, .int x] (st) h k z = (eX4_subSequence ret F n 13 [v0, v1, v2, v3, .int x] (.int x :: st) h k z) := (amWs_dec dX4_subSequence_11 rfl).trans rfl
theorem wX4_subSequence_13 {ret F n h k z} {v0 v1 v3 v4 st x} : eX4_subSequence ret F (n + 1) 13 [v0, v1, .int x, v3, v4] (st) h k z = (eX4_subSequence ret F n 14 [v0, v1, .int x, v3, v4] (.int x :: st) h k z) := (amWp_dec rfl dX4_subSequence_13 rfl).trans rfl
theorem wX4_subSequence_14 {ret F n h k z} {v0 v1 v2 v3 v4 st y x} : eX4_subSequence ret F (n + 1) 14 [v0, v1, v2, v3, v4] (.int y :: .int x :: st) h k z = ((y ≤ x → eX4_subSequence ret F n 35 [v0, v1, v2, v3, v4] (st) h k z) ∧ (¬ y ≤ x → eX4_subSequence ret F n 17 [v0, v1, v2, v3, v4] (st) h k z)) := (amWp_dec rfl dX4_subSequence_14 rfl).trans rfl
theorem wX4_subSequence_17 {ret F n h k z} {v0 v1 v2 v3 v4 st} : eX4_subSequence ret F (n + 1) 17 [v0, v1, v2, v3, v4] (st) h k z = (amIsR v3 ∧ eX4_subSequence ret F n 18 [v0, v1, v2, v3, v4] (v3 :: st) h k z) := (amWp_dec rfl dX4_subSequence_17 rfl).trans rfl
theorem wX4_subSequence_18 {ret F n h k z} {v0 v1 v2 v3 v4 st} : eX4_subSequence ret F (n + 1) 18 [v0, v1, v2, v3, v4] (st) h k z = (amIsR v0 ∧ eX4_subSequence ret F n 19 [v0, v1, v2, v3, v4] (v0 :: st) h k z) := (amWp_dec rfl dX4_subSequence_18 rfl).trans rfl
theorem wX4_subSequence_19 {ret F n h k z} {v0 v1 v2 v3 v4 r0 a} : eX4_subSequence ret F (n + 1) 19 [v0, v1, v2, v3, v4] (.ref a :: r0 :: []) h k z = (k + 0 ≤ 100 ∧ z + 0 ≤ 28000 ∧ h.1 a = (0, 4) ∧ eX4_subSequence ret F n 22 [v0, v1, v2, v3, v4] (va_rf (h.2.2.2.1 a 0) :: r0 :: []) h (k + 0) (z + 0)) := (amWp_dec rfl dX4_subSequence_19 rfl).trans (amS2 (Nat.le_of_ble_eq_true rfl) (Nat.le_of_ble_eq_true rfl))
theorem wX4_subSequence_22 {ret F n h k z} {v0 v1 v2 v3 st x} : eX4_subSequence ret F (n + 1) 22 [v0, v1, v2, v3, .int x] (st) h k z = (eX4_subSequence ret F n 24 [v0, v1, v2, v3, .int x] (.int x :: st) h k z) := (amWp_dec rfl dX4_subSequence_22 rfl).trans rfl
theorem wX4_subSequence_24 {ret F n h k z} {v0 v1 v2 v3 v4 st x a} : eX4_subSequence ret F (n + 1) 24 [v0, v1, v2, v3, v4] (.int x :: .ref a :: st) h k z = ((h.1 a).1 = 3 ∧ vp_in x (h.1 a).2 ∧ eX4_subSequence ret F n 25 [v0, v1, v2, v3, v4] (.int (h.2.1 a x.toNatClampNeg) :: st) h k z) := (amWp_dec rfl dX4_subSequence_24 rfl).trans rfl
theorem wX4_subSequence_25 {ret F n h k z} {v0 v1 v2 v3 v4 x1 x0} : eX4_subSequence ret F (n + 1) 25 [v0, v1, v2, v3, v4] (.int x1 :: .ref x0 :: []) h k z = (k + 1 ≤ 100 ∧ z + 302 ≤ 28000 ∧ h.1 x0 = (0, 8) ∧ tJ5_append_3 [.ref x0, .int x1] h (fun v h => eX4_subSequence ret F n 28 [v0, v1, v2, v3, v4] (v.toList ++ ([])) h (k + 1) (z + 302))) := (amWp_dec rfl dX4_subSequence_25 rfl).trans (amS2 (Nat.le_of_ble_eq_true rfl) (Nat.le_of_ble_eq_true rfl))
theorem wX4_subSequence_28 {ret F n ls st h k z} : eX4_subSequence ret F (n + 1) 28 ls st h k z = F 28 ls st h k z := amWp_cut rfl
theorem uX4_subSequence_28 {ret F n h k z} {v0 v1 v2 v3 v4 st b} : sX4_subSequence ret F n 28 [v0, v1, v2, v3, v4] (.ref b :: st) h k z = (eX4_subSequence ret F n 29 [v0, v1, v2, v3, v4] (st) h k z) := (amWs_dec dX4_subSequence_28 rfl).trans (amTrue rfl)
theorem wX4_subSequence_29 {ret F n h k z} {v0 v1 v2 v3 st x} : eX4_subSequence ret F (n + 1) 29 [v0, v1, v2, v3, .int x] (st) h k z = (eX4_subSequence ret F n 32 [v0, v1, v2, amClr v3, .int (x + nI 1)] (st) h k z) := (amWp_dec rfl dX4_subSequence_29 rfl).trans rfl
theorem wX4_subSequence_32 {ret F n h k z} {v0 v1 v2 v3 v4 st} : eX4_subSequence ret F (n + 1) 32 [v0, v1, v2, v3, v4] (st) h k z = (eX4_subSequence ret F n 11 [v0, v1, v2, v3, v4] (st) h k z) := (amWp_dec rfl dX4_subSequence_32 rfl).trans rfl
theorem wX4_subSequence_35 {ret F n h k z} {v0 v1 v2 v3 v4 st} : eX4_subSequence ret F (n + 1) 35 [v0, v1, v2, v3, v4] (st) h k z = (amIsR v3 ∧ eX4_subSequence ret F n 36 [v0, v1, v2, v3, v4] (v3 :: st) h k z) := (amWp_dec rfl dX4_subSequence_35 rfl).trans rfl
theorem wX4_subSequence_36 {ret F n h k z} {v0 v1 v2 v3 v4 x0} : eX4_subSequence ret F (n + 1) 36 [v0, v1, v2, v3, v4] (.ref x0 :: []) h k z = (k + 2 ≤ 100 ∧ z + 404 ≤ 28000 ∧ h.1 x0 = (0, 8) ∧ tJ5_toString [.ref x0] h (fun v h => eX4_subSequence ret F n 39 [v0, v1, v2, v3, v4] (v.toList ++ ([])) h (k + 2) (z + 404))) := (amWp_dec rfl dX4_subSequence_36 rfl).trans (amS2 (Nat.le_of_ble_eq_true rfl) (Nat.le_of_ble_eq_true rfl))
theorem wX4_subSequence_39 {ret F n ls st h k z} : eX4_subSequence ret F (n + 1) 39 ls st h k z = F 39 ls st h k z := amWp_cut rfl
theorem uX4_subSequence_39 {ret F n h k z} {v0 v1 v2 v3 v4 w} : sX4_subSequence ret F n 39 [v0, v1, v2, v3, v4] ([w]) h k z = (amIsR w ∧ ret (some w) h k z) := (amWs_dec dX4_subSequence_39 rfl).trans (amTrue ⟨_, rfl, rfl⟩)
theorem evX4_subSequence (l : Launch) (G : amG) : ∀ pc S i sz, amLk rX4_subSequence pc = some S → decode cX4_subSequence pc = .ok (i, sz) → amSiteP pc G l yX4_subSequence.cls yX4_subSequence.name yX4_subSequence.desc (amRm 7 100 28000) i sz S.1 S.2.1 S.2.2.1 S.2.2.2 := amLk_ok (by
  refine List.forall_mem_cons.mpr ⟨⟨_, _, dX4_subSequence_0, amSite.P (amSiteNew (ci := 8) (n := 4) (C := "java/lang/StringBuilder") ⟨_, rfl, rfl, rfl⟩ q1026 q583 q101)⟩, ?_⟩
  refine List.forall_mem_cons.mpr ⟨⟨_, _, dX4_subSequence_4, amSite.P (amSiteI (metJ5_init l G) rfl (by decide) (by decide) q586 q101 q1027 q585 ⟨rfl, by decide +kernel, by decide +kernel, by decide +kernel⟩)⟩, ?_⟩
  refine List.forall_mem_cons.mpr ⟨⟨_, _, dX4_subSequence_19, amSite.P (amSiteGet ⟨_, rfl, by decide, Or.inl q270⟩)⟩, ?_⟩
  refine List.forall_mem_cons.mpr ⟨⟨_, _, dX4_subSequence_25, amSite.P (amSiteV (C := RJ5) (metJ5_append_3 l G) rfl (by decide) (by decide) (lw_V q1028 q1029 q1030 q101 q1031) ⟨_, rfl, rfl⟩ ⟨rfl, by decide +kernel, by decide +kernel, by decide +kernel⟩)⟩, ?_⟩
  refine List.forall_mem_cons.mpr ⟨⟨_, _, dX4_subSequence_36, amSite.P (amSiteV (C := RJ5) (metJ5_toString l G) rfl (by decide) (by decide) (lw_V q1041 q785 q786 q101 q787) ⟨_, rfl, rfl⟩ ⟨rfl, by decide +kernel, by decide +kernel, by decide +kernel⟩)⟩, ?_⟩
  exact fun _ h => absurd h List.not_mem_nil)
theorem goX4_subSequence {ret F} (hF : amCld cX4_subSequence kX4_subSequence (amLk rX4_subSequence) (some (FieldType.object "java/lang/CharSequence")) 100 28000 ret F) (n : Nat) {pc ls st h k z} (q : sX4_subSequence ret F n pc ls st h k z) : F pc ls st h k z := hF.1 n pc ls st h k z q
theorem metX4_subSequence (l : Launch) (G : amG) : amMet l G yX4_subSequence (ws_ yX4_subSequence cX4_subSequence 5 (some (FieldType.object "java/lang/CharSequence"))) 7 100 28000 tX4_subSequence := by
  refine amMet_of (cut := kX4_subSequence) (by decide +kernel) (evX4_subSequence l G) ?_
  intro as h K hT
  match as, hT with
  | [.ref a, .int x, .int y], ⟨t, p, q, e1, hL, hn, e2, e3, pq, qt, hK⟩ =>
  refine ⟨Nat.le_of_ble_eq_true rfl, fun F hF => ?_⟩
  show F 0 [.ref a, .int x, .int y, .retAddr 0, .retAddr 0] [] h 0 0
  obtain ⟨a, rfl⟩ : ∃ i : Nat, i = a := ⟨_, rfl⟩
  subst e1 e2 e3
  have t90 := hL.2.2.2.1
  have f0 : gFr h (amNew h (0, 8)) h.2.2.2.2 := ⟨Nat.le_succ _, fun i hi => amNew_same hi⟩
  have loop : ∀ f j g b, p + j + f = q → gFr h g h.2.2.2.2 → SbAt g h.2.2.2.2 b ((t.drop p).take j) → F 11 [.ref 43, .int (nI p), .int (nI q), .ref b, .int (nI (p + j))] [] g (2 + j) (20 + 302 * j) := by
    intro f
    induction f with
    | zero =>
      intro j g b e fg B
      have e : q = p + j := by omega
      subst e
      have Bc := B.cl
      have kle : ∀ x, x ≤ 2 + j + 8 → (x ≤ 100) = True := fun x hx => eq_true (by omega)
      have zle : ∀ x, x ≤ 20 + 302 * j + 500 → (x ≤ 28000) = True := fun x hx => eq_true (by omega)
      refine goX4_subSequence hF 40 ?_
      simp (disch := omega) only [wX4_subSequence_0, uX4_subSequence_0, wX4_subSequence_3, wX4_subSequence_4, wX4_subSequence_7, uX4_subSequence_7, wX4_subSequence_8, wX4_subSequence_9, wX4_subSequence_11, uX4_subSequence_11, wX4_subSequence_13, wX4_subSequence_14, wX4_subSequence_17, wX4_subSequence_18, wX4_subSequence_19, wX4_subSequence_22, wX4_subSequence_24, wX4_subSequence_25, wX4_subSequence_28, uX4_subSequence_28, wX4_subSequence_29, wX4_subSequence_32, wX4_subSequence_35, wX4_subSequence_36, wX4_subSequence_39, uX4_subSequence_39, amSI_1, amSI_2, amSI_3, amSI_s, amU_at, amIsR_ref, amIsR_null, amIsR_rf, amRf_some, amRf_none, amClr_int, amClr_ref, amClr_null, amClr_long, amClr_ra, amClr_rf, amFit_int, amFit_oref, amFit_aref, amFit_onull, amFit_anull, amOptSome, amOptNone, List.cons_append, List.nil_append, true_and, and_true, true_implies, not_true_eq_false, not_false_eq_true, false_implies, and_self, Nat.add_zero, Nat.zero_add, ne_eq, Prod.mk.injEq, amC01_0, amC01_1, amC01_nb, amNb0, amNb1, amTcpI_d, Nat.reduceLeDiff, Nat.reduceAdd, Nat.reduceSub, Nat.reduceEqDiff, Nat.le_refl, amN0le, amLeI, amLtI, amEqI, amLe0, amGt0, amEq0, amNotPosI, amGe0, amVI, amCl_nI, amAdd, amSub, amMul, Bc, kle, zle]
      rw [tJ5_toString_d]
      refine ⟨_, _, B, fun h6 N6 => ?_⟩
      obtain ⟨f6, s6, z6, y6⟩ := N6
      have key := hK h6 g.2.2.2.2 (fg.tr (f6.le fg.1)) fg.1 (by rw [show p + j - p = j by omega]; exact s6) z6 y6
      refine goX4_subSequence hF 40 ?_
      simp (disch := omega) only [wX4_subSequence_0, uX4_subSequence_0, wX4_subSequence_3, wX4_subSequence_4, wX4_subSequence_7, uX4_subSequence_7, wX4_subSequence_8, wX4_subSequence_9, wX4_subSequence_11, uX4_subSequence_11, wX4_subSequence_13, wX4_subSequence_14, wX4_subSequence_17, wX4_subSequence_18, wX4_subSequence_19, wX4_subSequence_22, wX4_subSequence_24, wX4_subSequence_25, wX4_subSequence_28, uX4_subSequence_28, wX4_subSequence_29, wX4_subSequence_32, wX4_subSequence_35, wX4_subSequence_36, wX4_subSequence_39, uX4_subSequence_39, amSI_1, amSI_2, amSI_3, amSI_s, amU_at, amIsR_ref, amIsR_null, amIsR_rf, amRf_some, amRf_none, amClr_int, amClr_ref, amClr_null, amClr_long, amClr_ra, amClr_rf, amFit_int, amFit_oref, amFit_aref, amFit_onull, amFit_anull, amOptSome, amOptNone, List.cons_append, List.nil_append, true_and, and_true, true_implies, not_true_eq_false, not_false_eq_true, false_implies, and_self, Nat.add_zero, Nat.zero_add, ne_eq, Prod.mk.injEq, amC01_0, amC01_1, amC01_nb, amNb0, amNb1, amTcpI_d, Nat.reduceLeDiff, Nat.reduceAdd, Nat.reduceSub, Nat.reduceEqDiff, Nat.le_refl, amN0le, amLeI, amLtI, amEqI, amLe0, amGt0, amEq0, amNotPosI, amGe0, amVI, amCl_nI, amAdd, amSub, amMul]
      exact amRet.of (by omega) (by omega) key
    | succ f ih =>
      intro j g b e fg B
      have hp : p + j < t.length := by omega
      have c' : (q ≤ p + j) = False := eq_false (by omega)
      have Bc := B.cl
      have L := hL.same (fg.2 43 (by omega)) (fg.2 44 (by omega))
      obtain ⟨l1, l2, l3, l4, l5, l6, l7⟩ := L
      have hx := l6 _ hp
      have c1 := (l7 _ (getD_mem hp)).2
      have kle : ∀ x, x ≤ 2 + j + 8 → (x ≤ 100) = True := fun x hx => eq_true (by omega)
      have zle : ∀ x, x ≤ 20 + 302 * j + 500 → (x ≤ 28000) = True := fun x hx => eq_true (by omega)
      have ln : ((t.drop p).take j).length ≤ j := List.length_take_le _ _
      refine goX4_subSequence hF 40 ?_
      simp (disch := omega) only [wX4_subSequence_0, uX4_subSequence_0, wX4_subSequence_3, wX4_subSequence_4, wX4_subSequence_7, uX4_subSequence_7, wX4_subSequence_8, wX4_subSequence_9, wX4_subSequence_11, uX4_subSequence_11, wX4_subSequence_13, wX4_subSequence_14, wX4_subSequence_17, wX4_subSequence_18, wX4_subSequence_19, wX4_subSequence_22, wX4_subSequence_24, wX4_subSequence_25, wX4_subSequence_28, uX4_subSequence_28, wX4_subSequence_29, wX4_subSequence_32, wX4_subSequence_35, wX4_subSequence_36, wX4_subSequence_39, uX4_subSequence_39, amSI_1, amSI_2, amSI_3, amSI_s, amU_at, amIsR_ref, amIsR_null, amIsR_rf, amRf_some, amRf_none, amClr_int, amClr_ref, amClr_null, amClr_long, amClr_ra, amClr_rf, amFit_int, amFit_oref, amFit_aref, amFit_onull, amFit_anull, amOptSome, amOptNone, List.cons_append, List.nil_append, true_and, and_true, true_implies, not_true_eq_false, not_false_eq_true, false_implies, and_self, Nat.add_zero, Nat.zero_add, ne_eq, Prod.mk.injEq, amC01_0, amC01_1, amC01_nb, amNb0, amNb1, amTcpI_d, Nat.reduceLeDiff, Nat.reduceAdd, Nat.reduceSub, Nat.reduceEqDiff, Nat.le_refl, amN0le, amLeI, amLtI, amEqI, amLe0, amGt0, amEq0, amNotPosI, amGe0, amVI, amCl_nI, amAdd, amSub, amMul, Bc, kle, zle, c', l1, l2, l3, hx]
      rw [tJ5_append_3_d]
      refine ⟨_, _, _, B, rfl, by omega, by omega, fun h3 f3 B3 => ?_⟩
      rw [← take_succD hp] at B3
      have nx := ih (j + 1) h3 b (by omega) (fg.tr f3) B3
      have ek : 2 + (j + 1) = 2 + j + 1 := by omega
      have ez : 20 + 302 * (j + 1) = 20 + 302 * j + 302 := by omega
      have ep : p + (j + 1) = p + j + 1 := by omega
      rw [ek, ez, ep] at nx
      refine goX4_subSequence hF 40 ?_
      simp (disch := omega) only [wX4_subSequence_0, uX4_subSequence_0, wX4_subSequence_3, wX4_subSequence_4, wX4_subSequence_7, uX4_subSequence_7, wX4_subSequence_8, wX4_subSequence_9, wX4_subSequence_11, uX4_subSequence_11, wX4_subSequence_13, wX4_subSequence_14, wX4_subSequence_17, wX4_subSequence_18, wX4_subSequence_19, wX4_subSequence_22, wX4_subSequence_24, wX4_subSequence_25, wX4_subSequence_28, uX4_subSequence_28, wX4_subSequence_29, wX4_subSequence_32, wX4_subSequence_35, wX4_subSequence_36, wX4_subSequence_39, uX4_subSequence_39, amSI_1, amSI_2, amSI_3, amSI_s, amU_at, amIsR_ref, amIsR_null, amIsR_rf, amRf_some, amRf_none, amClr_int, amClr_ref, amClr_null, amClr_long, amClr_ra, amClr_rf, amFit_int, amFit_oref, amFit_aref, amFit_onull, amFit_anull, amOptSome, amOptNone, List.cons_append, List.nil_append, true_and, and_true, true_implies, not_true_eq_false, not_false_eq_true, false_implies, and_self, Nat.add_zero, Nat.zero_add, ne_eq, Prod.mk.injEq, amC01_0, amC01_1, amC01_nb, amNb0, amNb1, amTcpI_d, Nat.reduceLeDiff, Nat.reduceAdd, Nat.reduceSub, Nat.reduceEqDiff, Nat.le_refl, amN0le, amLeI, amLtI, amEqI, amLe0, amGt0, amEq0, amNotPosI, amGe0, amVI, amCl_nI, amAdd, amSub, amMul]
      exact nx
  refine goX4_subSequence hF 40 ?_
  simp (disch := omega) only [wX4_subSequence_0, uX4_subSequence_0, wX4_subSequence_3, wX4_subSequence_4, wX4_subSequence_7, uX4_subSequence_7, wX4_subSequence_8, wX4_subSequence_9, wX4_subSequence_11, uX4_subSequence_11, wX4_subSequence_13, wX4_subSequence_14, wX4_subSequence_17, wX4_subSequence_18, wX4_subSequence_19, wX4_subSequence_22, wX4_subSequence_24, wX4_subSequence_25, wX4_subSequence_28, uX4_subSequence_28, wX4_subSequence_29, wX4_subSequence_32, wX4_subSequence_35, wX4_subSequence_36, wX4_subSequence_39, uX4_subSequence_39, amSI_1, amSI_2, amSI_3, amSI_s, amU_at, amIsR_ref, amIsR_null, amIsR_rf, amRf_some, amRf_none, amClr_int, amClr_ref, amClr_null, amClr_long, amClr_ra, amClr_rf, amFit_int, amFit_oref, amFit_aref, amFit_onull, amFit_anull, amOptSome, amOptNone, List.cons_append, List.nil_append, true_and, and_true, true_implies, not_true_eq_false, not_false_eq_true, false_implies, and_self, Nat.add_zero, Nat.zero_add, ne_eq, Prod.mk.injEq, amC01_0, amC01_1, amC01_nb, amNb0, amNb1, amTcpI_d, Nat.reduceLeDiff, Nat.reduceAdd, Nat.reduceSub, Nat.reduceEqDiff, Nat.le_refl, amN0le, amLeI, amLtI, amEqI, amLe0, amGt0, amEq0, amNotPosI, amGe0, amVI, amCl_nI, amAdd, amSub, amMul]
  rw [tJ5_init_d]
  refine ⟨amNew_sh h _, (show 24 ≤ h.2.2.2.2 by omega), Nat.lt_succ_self _, by simp [amNew, va_up]; rfl, fun h2 f2 B2 => ?_⟩
  have nx := loop (q - p) 0 h2 h.2.2.2.2 (by omega) (f0.tr f2) (by rw [List.take_zero]; exact B2)
  refine goX4_subSequence hF 40 ?_
  simp (disch := omega) only [wX4_subSequence_0, uX4_subSequence_0, wX4_subSequence_3, wX4_subSequence_4, wX4_subSequence_7, uX4_subSequence_7, wX4_subSequence_8, wX4_subSequence_9, wX4_subSequence_11, uX4_subSequence_11, wX4_subSequence_13, wX4_subSequence_14, wX4_subSequence_17, wX4_subSequence_18, wX4_subSequence_19, wX4_subSequence_22, wX4_subSequence_24, wX4_subSequence_25, wX4_subSequence_28, uX4_subSequence_28, wX4_subSequence_29, wX4_subSequence_32, wX4_subSequence_35, wX4_subSequence_36, wX4_subSequence_39, uX4_subSequence_39, amSI_1, amSI_2, amSI_3, amSI_s, amU_at, amIsR_ref, amIsR_null, amIsR_rf, amRf_some, amRf_none, amClr_int, amClr_ref, amClr_null, amClr_long, amClr_ra, amClr_rf, amFit_int, amFit_oref, amFit_aref, amFit_onull, amFit_anull, amOptSome, amOptNone, List.cons_append, List.nil_append, true_and, and_true, true_implies, not_true_eq_false, not_false_eq_true, false_implies, and_self, Nat.add_zero, Nat.zero_add, ne_eq, Prod.mk.injEq, amC01_0, amC01_1, amC01_nb, amNb0, amNb1, amTcpI_d, Nat.reduceLeDiff, Nat.reduceAdd, Nat.reduceSub, Nat.reduceEqDiff, Nat.le_refl, amN0le, amLeI, amLtI, amEqI, amLe0, amGt0, amEq0, amNotPosI, amGe0, amVI, amCl_nI, amAdd, amSub, amMul]
  exact nx
theorem tX4_subSequence_d {a : Nat} {x y : Int32} {h : amH} {K : Option Value → amH → Prop} : tX4_subSequence [.ref a, .int x, .int y] h K = ∃ (t : List Nat) (p q : Nat), a = (43 : Nat) ∧ LtIs h t ∧ 143 ≤ h.2.2.2.2 ∧ x = nI p ∧ y = nI q ∧ p ≤ q ∧ q ≤ t.length ∧ ∀ h' s', gFr h h' h.2.2.2.2 → h.2.2.2.2 ≤ s' → StIs h' s' ((t.drop p).take (q - p)) → h'.2.1 s' 2 = nI 0 → h'.2.1 s' 3 = nI 0 → K (some (.ref s')) h' := rfl
