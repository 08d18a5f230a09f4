/-! acts -/
set_option maxRecDepth 100000
theorem opFr.si {h : amH} {m : Nat → Nat → Int32} (e1 : ∀ i : Nat, i ≠ 24 → (i < 25 ∨ 30 ≤ i) → (i < 31 ∨ 41 ≤ i) → ¬ pastC i → m i = h.2.1 i) (e2 : ∀ j : Nat, (j < 10 ∨ (14 ≤ j ∧ j ≠ 15)) → m 24 j = h.2.1 24 j) : opFr h (amSI h m) := ⟨Nat.le_refl _, fun i _ => ⟨rfl, rfl, fun _ => rfl, e1 i⟩, e2⟩
theorem opFr.hs {h : amH} {m : Nat → Nat → Int32} (f : hsFr h.2.1 m 25) : opFr h (amSI h m) := opFr.si (fun i _ h2 _ _ => f i (by omega)) (fun j _ => by rw [f 24 (by omega)])
theorem opFr.rd {h : amH} {m : Nat → Nat → Int32} (f : rdFr h.2.1 m) : opFr h (amSI h m) := opFr.si (fun i _ _ h3 _ => f i (by omega)) (fun j _ => by rw [f 24 (by omega)])
/-- noted -/
theorem note_of {h : amH} {X : XS} {K : Option Value → amH → Prop} (w : RsW h X) (k : ∀ h', opFr h h' → rsAt h' → h'.2.2.2.2 = h.2.2.2.2 → HsIs h'.2.1 25 X.1 → UnIs h'.2.1 h'.2.2.2.1 (noteU X.2.1 X.1) → K none h') : tX0_note [.ref 24] h K := by
  have hN := w.1.2.2.2
  rw [tX0_note_d]
  refine ⟨X.1, X.2.1, rfl, w.1.1, w.2.1, w.1.2.1, w.2.2.2.1, fun m' r' f1 f2 f3 f4 => ?_⟩
  have f : opFr h (amSR h m' r') := ⟨Nat.le_refl _, fun i hi => ⟨rfl, rfl, fun q => f3 i q, fun q1 _ _ q4 => f1 i q1 q4⟩, fun j hj => f2 j (by omega)⟩
  exact k _ f (f.at hN w.1.1) rfl (w.1.2.1.kept (fun i h1 h2 => f1 i (by omega) (by unfold pastC; omega))) f4
/-- an act done: noted, the house another one -/
def actX (X : XS) (S : HS) : XS := (S, noteU X.2.1 X.1, X.2.2)
theorem RsW.act {h h1 h' : amH} {X : XS} (w : RsW h X) (f1 : opFr h h1) (hU : UnIs h1.2.1 h1.2.2.2.1 (noteU X.2.1 X.1)) {m : Nat → Nat → Int32} (e : h' = amSI h1 m) (f2 : hsFr h1.2.1 m 25) {S : HS} (hS : HsIs m 25 S) (hO : hsOk S) : rsFr h h' ∧ RsW h' (actX X S) := by
  subst e
  have hN := w.1.2.2.2
  have f := f1.tr (opFr.hs f2)
  refine ⟨f.rs hN, w.op f hS hO (hU.mv ?_ rfl (fun i hi => ?_)) (noteU_ok w.2.2.2.2.1 w.1.2.2.1)⟩
  · show m 24 15 = _
    rw [f2 24 (by omega)]
  · unfold pastC at hi
    exact f2 i (by omega)
theorem rsFr.rf (h : amH) : rsFr h h := ⟨Nat.le_refl _, fun _ _ _ => amSame.rf h _⟩
def bookR (X : XS) (x : Int32) : XS × Int32 := if ¬ (lN 1 ≤ x.toInt64 ∧ x.toInt64 ≤ lN 1048575) then (X, -1) else if X.1.ord.length = 7 then (X, -3) else (actX X (X.1.add x.toNatClampNeg), nI X.1.ord.length)
def tX0_book : amT := fun as h K => match as with
  | [.ref a, .int x] => ∃ X : XS, a = (24 : Nat) ∧ RsW h X ∧ ∀ h', rsFr h h' → RsW h' (bookR X x).1 → K (some (.int (bookR X x).2)) h'
  | _ => False
theorem am1L : (nI 1).toInt64 = lN 1 := by decide
theorem am0L : (nI 0).toInt64 = lN 0 := by decide
/-! ReadingStages.book(I)I -/
def kX0_book : Nat → Bool := fun pc => pc == 29 || pc == 37
def rX0_book : List (Nat × amS) := [(2, 2, 0, 0, tX0_isSet), (11, 1, 0, 0, amTget 0 0), (14, 1, 0, 0, (amRecv 1 tX1_many)), (26, 1, 0, 0, (amRecv 0 tX0_note)), (30, 1, 0, 0, amTget 0 0), (34, 2, 0, 0, (amRecv 1 tX1_add)), (38, 1, 0, 0, amTget 0 0), (41, 1, 0, 0, (amRecv 1 tX1_many))]
def eX0_book (ret : Option Value → amH → Nat → Nat → Prop) (F : amX) : Nat → amX := amWp cX0_book kX0_book (amLk rX0_book) (some .int) 0 0 ret F
def sX0_book (ret : Option Value → amH → Nat → Nat → Prop) (F : amX) : Nat → amX := amWs cX0_book kX0_book (amLk rX0_book) (some .int) 0 0 ret F
theorem wX0_book_0 {ret F n h} {v0 st x} : eX0_book ret F (n + 1) 0 [v0, .int x] (st) h 0 0 = (eX0_book ret F n 1 [v0, .int x] (.int x :: st) h 0 0) := (amWp_dec rfl dX0_book_0 rfl).trans rfl
theorem uX0_book_0 {ret F n h} {v0 st x} : sX0_book ret F n 0 [v0, .int x] (st) h 0 0 = (eX0_book ret F n 1 [v0, .int x] (.int x :: st) h 0 0) := (amWs_dec dX0_book_0 rfl).trans rfl
theorem wX0_book_1 {ret F n h} {v0 v1 st} : eX0_book ret F (n + 1) 1 [v0, v1] (st) h 0 0 = (eX0_book ret F n 2 [v0, v1] (.int (nI 1) :: st) h 0 0) := (amWp_dec rfl dX0_book_1 rfl).trans rfl
theorem wX0_book_2 {ret F n h} {v0 v1 x1 x0} : eX0_book ret F (n + 1) 2 [v0, v1] (.int x1 :: .int x0 :: []) h 0 0 = (tX0_isSet [.int x0, .int x1] h (fun v h => eX0_book ret F n 5 [v0, v1] (v.toList ++ ([])) h 0 0)) := (amWp_dec rfl dX0_book_2 rfl).trans (amS4 (Nat.le_of_ble_eq_true rfl) (Nat.le_of_ble_eq_true rfl) (Nat.le_of_ble_eq_true rfl) (Nat.le_of_ble_eq_true rfl))
theorem wX0_book_5 {ret F n h} {v0 v1 st x} : eX0_book ret F (n + 1) 5 [v0, v1] (.int x :: st) h 0 0 = ((¬ x = 0 → eX0_book ret F n 10 [v0, v1] (st) h 0 0) ∧ (x = 0 → eX0_book ret F n 8 [v0, v1] (st) h 0 0)) := (amWp_dec rfl dX0_book_5 rfl).trans rfl
theorem wX0_book_8 {ret F n h} {v0 v1 st} : eX0_book ret F (n + 1) 8 [v0, v1] (st) h 0 0 = (eX0_book ret F n 9 [v0, v1] (.int (-1) :: st) h 0 0) := (amWp_dec rfl dX0_book_8 rfl).trans rfl
theorem wX0_book_9 {ret F n h} {v0 v1 x} : eX0_book ret F (n + 1) 9 [v0, v1] ([.int x]) h 0 0 = (ret (some (.int x)) h 0 0) := (amWp_dec rfl dX0_book_9 rfl).trans (amTrue ⟨_, rfl, rfl⟩)
theorem wX0_book_10 {ret F n h} {v0 v1 st} : eX0_book ret F (n + 1) 10 [v0, v1] (st) h 0 0 = (amIsR v0 ∧ eX0_book ret F n 11 [v0, v1] (v0 :: st) h 0 0) := (amWp_dec rfl dX0_book_10 rfl).trans rfl
theorem wX0_book_11 {ret F n h} {v0 v1 a} : eX0_book ret F (n + 1) 11 [v0, v1] (.ref a :: []) h 0 0 = (h.1 a = (0, 0) ∧ eX0_book ret F n 14 [v0, v1] (va_rf (h.2.2.2.1 a 0) :: []) h 0 0) := (amWp_dec rfl dX0_book_11 rfl).trans (amS4 (Nat.le_of_ble_eq_true rfl) (Nat.le_of_ble_eq_true rfl) (Nat.le_of_ble_eq_true rfl) (Nat.le_of_ble_eq_true rfl))
theorem wX0_book_14 {ret F n h} {v0 v1 x0} : eX0_book ret F (n + 1) 14 [v0, v1] (.ref x0 :: []) h 0 0 = (h.1 x0 = (0, 1) ∧ tX1_many [.ref x0] h (fun v h => eX0_book ret F n 17 [v0, v1] (v.toList ++ ([])) h 0 0)) := (amWp_dec rfl dX0_book_14 rfl).trans (amS4 (Nat.le_of_ble_eq_true rfl) (Nat.le_of_ble_eq_true rfl) (Nat.le_of_ble_eq_true rfl) (Nat.le_of_ble_eq_true rfl))
theorem wX0_book_17 {ret F n h} {v0 v1 st} : eX0_book ret F (n + 1) 17 [v0, v1] (st) h 0 0 = (eX0_book ret F n 19 [v0, v1] (.int (nI 7) :: st) h 0 0) := (amWp_dec rfl dX0_book_17 rfl).trans rfl
theorem wX0_book_19 {ret F n h} {v0 v1 st y x} : eX0_book ret F (n + 1) 19 [v0, v1] (.int y :: .int x :: st) h 0 0 = ((¬ x = y → eX0_book ret F n 25 [v0, v1] (st) h 0 0) ∧ (x = y → eX0_book ret F n 22 [v0, v1] (st) h 0 0)) := (amWp_dec rfl dX0_book_19 rfl).trans rfl
theorem wX0_book_22 {ret F n h} {v0 v1 st} : eX0_book ret F (n + 1) 22 [v0, v1] (st) h 0 0 = (eX0_book ret F n 24 [v0, v1] (.int (-3) :: st) h 0 0) := (amWp_dec rfl dX0_book_22 rfl).trans rfl
theorem wX0_book_24 {ret F n h} {v0 v1 x} : eX0_book ret F (n + 1) 24 [v0, v1] ([.int x]) h 0 0 = (ret (some (.int x)) h 0 0) := (amWp_dec rfl dX0_book_24 rfl).trans (amTrue ⟨_, rfl, rfl⟩)
theorem wX0_book_25 {ret F n h} {v0 v1 st} : eX0_book ret F (n + 1) 25 [v0, v1] (st) h 0 0 = (amIsR v0 ∧ eX0_book ret F n 26 [v0, v1] (v0 :: st) h 0 0) := (amWp_dec rfl dX0_book_25 rfl).trans rfl
theorem wX0_book_26 {ret F n h} {v0 v1 x0} : eX0_book ret F (n + 1) 26 [v0, v1] (.ref x0 :: []) h 0 0 = (h.1 x0 = (0, 0) ∧ tX0_note [.ref x0] h (fun v h => eX0_book ret F n 29 [v0, v1] (v.toList ++ ([])) h 0 0)) := (amWp_dec rfl dX0_book_26 rfl).trans (amS4 (Nat.le_of_ble_eq_true rfl) (Nat.le_of_ble_eq_true rfl) (Nat.le_of_ble_eq_true rfl) (Nat.le_of_ble_eq_true rfl))
theorem wX0_book_29 {ret F n ls st h k z} : eX0_book ret F (n + 1) 29 ls st h k z = F 29 ls st h k z := amWp_cut rfl
theorem uX0_book_29 {ret F n h} {v0 v1 st} : sX0_book ret F n 29 [v0, v1] (st) h 0 0 = (amIsR v0 ∧ eX0_book ret F n 30 [v0, v1] (v0 :: st) h 0 0) := (amWs_dec dX0_book_29 rfl).trans rfl
theorem wX0_book_30 {ret F n h} {v0 v1 a} : eX0_book ret F (n + 1) 30 [v0, v1] (.ref a :: []) h 0 0 = (h.1 a = (0, 0) ∧ eX0_book ret F n 33 [v0, v1] (va_rf (h.2.2.2.1 a 0) :: []) h 0 0) := (amWp_dec rfl dX0_book_30 rfl).trans (amS4 (Nat.le_of_ble_eq_true rfl) (Nat.le_of_ble_eq_true rfl) (Nat.le_of_ble_eq_true rfl) (Nat.le_of_ble_eq_true rfl))
theorem wX0_book_33 {ret F n h} {v0 st x} : eX0_book ret F (n + 1) 33 [v0, .int x] (st) h 0 0 = (eX0_book ret F n 34 [v0, .int x] (.int x :: st) h 0 0) := (amWp_dec rfl dX0_book_33 rfl).trans rfl
theorem wX0_book_34 {ret F n h} {v0 v1 x1 x0} : eX0_book ret F (n + 1) 34 [v0, v1] (.int x1 :: .ref x0 :: []) h 0 0 = (h.1 x0 = (0, 1) ∧ tX1_add [.ref x0, .int x1] h (fun v h => eX0_book ret F n 37 [v0, v1] (v.toList ++ ([])) h 0 0)) := (amWp_dec rfl dX0_book_34 rfl).trans (amS4 (Nat.le_of_ble_eq_true rfl) (Nat.le_of_ble_eq_true rfl) (Nat.le_of_ble_eq_true rfl) (Nat.le_of_ble_eq_true rfl))
theorem wX0_book_37 {ret F n ls st h k z} : eX0_book ret F (n + 1) 37 ls st h k z = F 37 ls st h k z := amWp_cut rfl
theorem uX0_book_37 {ret F n h} {v0 v1 st} : sX0_book ret F n 37 [v0, v1] (st) h 0 0 = (amIsR v0 ∧ eX0_book ret F n 38 [v0, v1] (v0 :: st) h 0 0) := (amWs_dec dX0_book_37 rfl).trans rfl
theorem wX0_book_38 {ret F n h} {v0 v1 a} : eX0_book ret F (n + 1) 38 [v0, v1] (.ref a :: []) h 0 0 = (h.1 a = (0, 0) ∧ eX0_book ret F n 41 [v0, v1] (va_rf (h.2.2.2.1 a 0) :: []) h 0 0) := (amWp_dec rfl dX0_book_38 rfl).trans (amS4 (Nat.le_of_ble_eq_true rfl) (Nat.le_of_ble_eq_true rfl) (Nat.le_of_ble_eq_true rfl) (Nat.le_of_ble_eq_true rfl))
theorem wX0_book_41 {ret F n h} {v0 v1 x0} : eX0_book ret F (n + 1) 41 [v0, v1] (.ref x0 :: []) h 0 0 = (h.1 x0 = (0, 1) ∧ tX1_many [.ref x0] h (fun v h => eX0_book ret F n 44 [v0, v1] (v.toList ++ ([])) h 0 0)) := (amWp_dec rfl dX0_book_41 rfl).trans (amS4 (Nat.le_of_ble_eq_true rfl) (Nat.le_of_ble_eq_true rfl) (Nat.le_of_ble_eq_true rfl) (Nat.le_of_ble_eq_true rfl))
theorem wX0_book_44 {ret F n h} {v0 v1 st} : eX0_book ret F (n + 1) 44 [v0, v1] (st) h 0 0 = (eX0_book ret F n 45 [v0, v1] (.int (nI 1) :: st) h 0 0) := (amWp_dec rfl dX0_book_44 rfl).trans rfl
theorem wX0_book_45 {ret F n h} {v0 v1 st y x} : eX0_book ret F (n + 1) 45 [v0, v1] (.int y :: .int x :: st) h 0 0 = (eX0_book ret F n 46 [v0, v1] (.int (x - y) :: st) h 0 0) := (amWp_dec rfl dX0_book_45 rfl).trans rfl
theorem wX0_book_46 {ret F n h} {v0 v1 x} : eX0_book ret F (n + 1) 46 [v0, v1] ([.int x]) h 0 0 = (ret (some (.int x)) h 0 0) := (amWp_dec rfl dX0_book_46 rfl).trans (amTrue ⟨_, rfl, rfl⟩)
theorem evX0_book (l : Launch) (G : amG) : ∀ pc S i sz, amLk rX0_book pc = some S → decode cX0_book pc = .ok (i, sz) → amSiteP pc G l yX0_book.cls yX0_book.name yX0_book.desc (amRm 4 0 0) i sz S.1 S.2.1 S.2.2.1 S.2.2.2 := amLk_ok (by
  refine List.forall_mem_cons.mpr ⟨⟨_, _, dX0_book_2, amSite.P (amSiteS (metX0_isSet l G) rfl (by decide) (by decide) (lw_S q877 q878 q86 q879) ⟨by decide +kernel, by decide +kernel, by decide +kernel⟩)⟩, ?_⟩
  refine List.forall_mem_cons.mpr ⟨⟨_, _, dX0_book_11, amSite.P (amSiteGet ⟨_, rfl, by decide, Or.inl q301⟩)⟩, ?_⟩
  refine List.forall_mem_cons.mpr ⟨⟨_, _, dX0_book_14, amSite.P (amSiteV (C := RX1) (metX1_many l G) rfl (by decide) (by decide) (lw_V q478 q479 q480 q87 q481) ⟨_, rfl, rfl⟩ ⟨rfl, by decide +kernel, by decide +kernel, by decide +kernel⟩)⟩, ?_⟩
  refine List.forall_mem_cons.mpr ⟨⟨_, _, dX0_book_26, amSite.P (amSiteV (C := RX0) (metX0_note l G) rfl (by decide) (by decide) (lw_V q881 q883 qs24 q86 q884) ⟨_, rfl, rfl⟩ ⟨rfl, by decide +kernel, by decide +kernel, by decide +kernel⟩)⟩, ?_⟩
  refine List.forall_mem_cons.mpr ⟨⟨_, _, dX0_book_30, amSite.P (amSiteGet ⟨_, rfl, by decide, Or.inl q301⟩)⟩, ?_⟩
  refine List.forall_mem_cons.mpr ⟨⟨_, _, dX0_book_34, amSite.P (amSiteV (C := RX1) (metX1_add l G) rfl (by decide) (by decide) (lw_V q892 q893 q894 q87 q895) ⟨_, rfl, rfl⟩ ⟨rfl, by decide +kernel, by decide +kernel, by decide +kernel⟩)⟩, ?_⟩
  refine List.forall_mem_cons.mpr ⟨⟨_, _, dX0_book_38, amSite.P (amSiteGet ⟨_, rfl, by decide, Or.inl q301⟩)⟩, ?_⟩
  refine List.forall_mem_cons.mpr ⟨⟨_, _, dX0_book_41, amSite.P (amSiteV (C := RX1) (metX1_many l G) rfl (by decide) (by decide) (lw_V q478 q479 q480 q87 q481) ⟨_, rfl, rfl⟩ ⟨rfl, by decide +kernel, by decide +kernel, by decide +kernel⟩)⟩, ?_⟩
  exact fun _ h => absurd h List.not_mem_nil)
theorem goX0_book {ret F} (hF : amCld cX0_book kX0_book (amLk rX0_book) (some .int) 0 0 ret F) (n : Nat) {pc ls st h k z} (q : sX0_book ret F n pc ls st h k z) : F pc ls st h k z := hF.1 n pc ls st h k z q
theorem metX0_book (l : Launch) (G : amG) : amMet l G yX0_book (ws_ yX0_book cX0_book 2 (some .int)) 4 0 0 tX0_book := by
  refine amMet_of (cut := kX0_book) (by decide +kernel) (evX0_book l G) ?_
  intro as h K hT
  match as, hT with
  | [.ref a, .int x], ⟨X, e1, w, hK⟩ =>
  refine ⟨Nat.le_of_ble_eq_true rfl, fun F hF => ?_⟩
  show F 0 [.ref a, .int x] [] h 0 0
  obtain ⟨a, rfl⟩ : ∃ i : Nat, i = a := ⟨_, rfl⟩
  subst e1
  have hR := w.1.1
  have hS := w.1.2.1
  have hO := w.1.2.2.1
  have n7 := hS.n7
  have hm := hS.many
  refine goX0_book hF 60 ?_
  simp (disch := omega) only [wX0_book_0, uX0_book_0, wX0_book_1, wX0_book_2, wX0_book_5, wX0_book_8, wX0_book_9, wX0_book_10, wX0_book_11, wX0_book_14, wX0_book_17, wX0_book_19, wX0_book_22, wX0_book_24, wX0_book_25, wX0_book_26, wX0_book_29, uX0_book_29, wX0_book_30, wX0_book_33, wX0_book_34, wX0_book_37, uX0_book_37, wX0_book_38, wX0_book_41, wX0_book_44, wX0_book_45, wX0_book_46, amSI_1, amSI_2, amSI_3, amSI_s, amU_at, amIsR_ref, amIsR_null, amIsR_rf, amRf_some, amRf_none, amClr_int, amClr_ref, amClr_null, amClr_long, amClr_ra, amClr_rf, amFit_int, amFit_oref, amFit_aref, amFit_onull, amFit_anull, amOptSome, amOptNone, List.cons_append, List.nil_append, true_and, and_true, true_implies, not_true_eq_false, not_false_eq_true, false_implies, and_self, Nat.add_zero, Nat.zero_add, ne_eq, Prod.mk.injEq, amC01_0, amC01_1, amC01_nb, amNb0, amNb1, amTcpI_d, Nat.reduceLeDiff, Nat.reduceAdd, Nat.reduceSub, Nat.reduceEqDiff, Nat.le_refl, amN0le, hR.s, hR.r, tX0_isSet_d, am1L, tX1_many_d, hm, amLeI, amLtI, amEqI, amLe0, amGt0, amEq0, amNotPosI, amGe0, amVI, amCl_nI, amAdd, amSub, amMul]
  refine ⟨fun q => ⟨fun q7 => note_of w (fun h1 f1 hR1 _ hS1 hU1 => ?_), fun q7 => ?_⟩, fun q => ?_⟩
  · obtain ⟨v, v1, v2, rfl⟩ := (amInL (by decide) (by decide)).mp (Classical.not_not.mp q)
    have key := hK
    rw [bookR, if_neg q, if_neg q7, amCl_nI (by omega)] at key
    have hR := hR1
    refine goX0_book hF 60 ?_
    simp (disch := omega) only [wX0_book_0, uX0_book_0, wX0_book_1, wX0_book_2, wX0_book_5, wX0_book_8, wX0_book_9, wX0_book_10, wX0_book_11, wX0_book_14, wX0_book_17, wX0_book_19, wX0_book_22, wX0_book_24, wX0_book_25, wX0_book_26, wX0_book_29, uX0_book_29, wX0_book_30, wX0_book_33, wX0_book_34, wX0_book_37, uX0_book_37, wX0_book_38, wX0_book_41, wX0_book_44, wX0_book_45, wX0_book_46, amSI_1, amSI_2, amSI_3, amSI_s, amU_at, amIsR_ref, amIsR_null, amIsR_rf, amRf_some, amRf_none, amClr_int, amClr_ref, amClr_null, amClr_long, amClr_ra, amClr_rf, amFit_int, amFit_oref, amFit_aref, amFit_onull, amFit_anull, amOptSome, amOptNone, List.cons_append, List.nil_append, true_and, and_true, true_implies, not_true_eq_false, not_false_eq_true, false_implies, and_self, Nat.add_zero, Nat.zero_add, ne_eq, Prod.mk.injEq, amC01_0, amC01_1, amC01_nb, amNb0, amNb1, amTcpI_d, Nat.reduceLeDiff, Nat.reduceAdd, Nat.reduceSub, Nat.reduceEqDiff, Nat.le_refl, amN0le, hR.s, hR.r, tX1_add_d]
    refine ⟨X.1, v, rfl, hR1.now, hS1, by omega, fun m' p1 p2 => ?_⟩
    obtain ⟨g1, g2⟩ := w.act f1 hU1 rfl p2 p1 (hO.add (by omega) (by omega) (by omega))
    have key := key _ g1 g2
    have mm := p1.many
    have el : (X.1.add v).ord.length = X.1.ord.length + 1 := by show (X.1.ord ++ [_]).length = _; simp
    rw [el] at mm
    refine goX0_book hF 60 ?_
    simp (disch := omega) only [wX0_book_0, uX0_book_0, wX0_book_1, wX0_book_2, wX0_book_5, wX0_book_8, wX0_book_9, wX0_book_10, wX0_book_11, wX0_book_14, wX0_book_17, wX0_book_19, wX0_book_22, wX0_book_24, wX0_book_25, wX0_book_26, wX0_book_29, uX0_book_29, wX0_book_30, wX0_book_33, wX0_book_34, wX0_book_37, uX0_book_37, wX0_book_38, wX0_book_41, wX0_book_44, wX0_book_45, wX0_book_46, amSI_1, amSI_2, amSI_3, amSI_s, amU_at, amIsR_ref, amIsR_null, amIsR_rf, amRf_some, amRf_none, amClr_int, amClr_ref, amClr_null, amClr_long, amClr_ra, amClr_rf, amFit_int, amFit_oref, amFit_aref, amFit_onull, amFit_anull, amOptSome, amOptNone, List.cons_append, List.nil_append, true_and, and_true, true_implies, not_true_eq_false, not_false_eq_true, false_implies, and_self, Nat.add_zero, Nat.zero_add, ne_eq, Prod.mk.injEq, amC01_0, amC01_1, amC01_nb, amNb0, amNb1, amTcpI_d, Nat.reduceLeDiff, Nat.reduceAdd, Nat.reduceSub, Nat.reduceEqDiff, Nat.le_refl, amN0le, hR.s, hR.r, tX1_many_d, mm, amLeI, amLtI, amEqI, amLe0, amGt0, amEq0, amNotPosI, amGe0, amVI, amCl_nI, amAdd, amSub, amMul, Nat.add_sub_cancel]
    exact amRet.of (by decide) (by decide) key
  · have key := hK
    rw [bookR, if_neg q, if_pos q7] at key
    exact amRet.of (by decide) (by decide) (key h (rsFr.rf h) w)
  · have key := hK
    rw [bookR, if_pos q] at key
    exact amRet.of (by decide) (by decide) (key h (rsFr.rf h) w)
theorem tX0_book_d {a : Nat} {x : Int32} {h : amH} {K : Option Value → amH → Prop} : tX0_book [.ref a, .int x] h K = ∃ X : XS, a = (24 : Nat) ∧ RsW h X ∧ ∀ h', rsFr h h' → RsW h' (bookR X x).1 → K (some (.int (bookR X x).2)) h' := rfl
