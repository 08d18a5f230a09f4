/-! the constructors: board, house, letters, sheet, the fault -/
set_option maxRecDepth 100000
/-- an object made with n cells behind it: what was there before is there still -/
def nwFr (h h' : amH) (a n : Nat) : Prop := h'.2.2.2.2 = h.2.2.2.2 + n ∧ ∀ i : Nat, i < h.2.2.2.2 → i ≠ a → amSame h h' i
theorem nI24 {a : Nat} (h : (24 : Nat) ≤ a) : (amN0 ≤ a) = True := eq_true h
theorem amNew_s0 {h : amH} {s : Nat × Nat} : (amNew h s).1 h.2.2.2.2 = s := if_pos rfl
theorem amNew_i0 {h : amH} {s : Nat × Nat} : (amNew h s).2.1 h.2.2.2.2 = fun _ => 0 := if_pos rfl
theorem amNew_i {h : amH} {s : Nat × Nat} {i : Nat} (hi : i < h.2.2.2.2) : (amNew h s).2.1 i = h.2.1 i := if_neg (by omega)
theorem amNew_r {h : amH} {s : Nat × Nat} {i : Nat} (hi : i < h.2.2.2.2) : (amNew h s).2.2.2.1 i = h.2.2.2.1 i := if_neg (by omega)
theorem amWr_r {h : amH} {a f b : Nat} : (amWr h a f (.ref b)).2.2.2.1 a f = some b := by simp [amWr, va_up]
theorem amWr_rn {h : amH} {a f b i j : Nat} (hij : j ≠ f) : (amWr h a f (.ref b)).2.2.2.1 a j = h.2.2.2.1 a j := by simp [amWr, va_up, hij]
def tX2_init : amT := fun as h K => match as with
  | [.ref a] => h.1 a = (0, 2) ∧ (24 : Nat) ≤ a ∧ (a : Nat) + 1 = h.2.2.2.2 ∧ h.2.1 a 1 = nI 0 ∧ ∀ h', nwFr h h' a 1 → bdAt h' a → bdIs h'.2.1 a [] → K none h'
  | _ => False
/-! ReadingStages$Board.<init>()V -/
def kX2_init : Nat → Bool := fun pc => false
def rX2_init : List (Nat × amS) := [(1, 1, 0, 0, amIsRef (fun _ h K => K none h)), (9, 2, 0, 0, amTput 2 0)]
def eX2_init (ret : Option Value → amH → Nat → Nat → Prop) (F : amX) : Nat → amX := amWp cX2_init kX2_init (amLk rX2_init) none 1 7 ret F
def sX2_init (ret : Option Value → amH → Nat → Nat → Prop) (F : amX) : Nat → amX := amWs cX2_init kX2_init (amLk rX2_init) none 1 7 ret F
theorem wX2_init_0 {ret F n h k z} {v0 st} : eX2_init ret F (n + 1) 0 [v0] (st) h k z = (amIsR v0 ∧ eX2_init ret F n 1 [v0] (v0 :: st) h k z) := (amWp_dec rfl dX2_init_0 rfl).trans rfl
theorem uX2_init_0 {ret F n h k z} {v0 st} : sX2_init ret F n 0 [v0] (st) h k z = (amIsR v0 ∧ eX2_init ret F n 1 [v0] (v0 :: st) h k z) := (amWs_dec dX2_init_0 rfl).trans rfl
theorem wX2_init_1 {ret F n h k z} {v0 x0} : eX2_init ret F (n + 1) 1 [v0] (.ref x0 :: []) h k z = (k + 0 ≤ 1 ∧ z + 0 ≤ 7 ∧ eX2_init ret F n 4 [v0] ([]) h (k + 0) (z + 0)) := (amWp_dec rfl dX2_init_1 rfl).trans (amS2 (Nat.le_of_ble_eq_true rfl) (Nat.le_of_ble_eq_true rfl))
theorem wX2_init_4 {ret F n h k z} {v0 st} : eX2_init ret F (n + 1) 4 [v0] (st) h k z = (amIsR v0 ∧ eX2_init ret F n 5 [v0] (v0 :: st) h k z) := (amWp_dec rfl dX2_init_4 rfl).trans rfl
theorem wX2_init_5 {ret F n h k z} {v0 st} : eX2_init ret F (n + 1) 5 [v0] (st) h k z = (eX2_init ret F n 7 [v0] (.int (nI 7) :: st) h k z) := (amWp_dec rfl dX2_init_5 rfl).trans rfl
theorem wX2_init_7 {ret F n h k z} {v0 st x} : eX2_init ret F (n + 1) 7 [v0] (.int x :: st) h k z = (¬ x < 0 ∧ x.toNatClampNeg ≤ 67108864 ∧ k + 1 ≤ 1 ∧ z + x.toNatClampNeg ≤ 7 ∧ eX2_init ret F n 9 [v0] (.ref h.2.2.2.2 :: st) (amNew h (2, x.toNatClampNeg)) (k + 1) (z + x.toNatClampNeg)) := (amWp_dec rfl dX2_init_7 rfl).trans (amTrue (Nat.le_of_ble_eq_true rfl))
theorem wX2_init_9 {ret F n h k z} {v0 w a} : eX2_init ret F (n + 1) 9 [v0] (w :: .ref a :: []) h k z = (k + 0 ≤ 1 ∧ z + 0 ≤ 7 ∧ h.1 a = (0, 2) ∧ amN0 ≤ a ∧ amFit (.array .byte) w ∧ eX2_init ret F n 12 [v0] ([]) (amWr h a 0 w) (k + 0) (z + 0)) := (amWp_dec rfl dX2_init_9 rfl).trans (amS2 (Nat.le_of_ble_eq_true rfl) (Nat.le_of_ble_eq_true rfl))
theorem wX2_init_12 {ret F n h k z} {v0} : eX2_init ret F (n + 1) 12 [v0] ([]) h k z = (ret none h k z) := (amWp_dec rfl dX2_init_12 rfl).trans (amTrue rfl)
theorem evX2_init (l : Launch) (G : amG) : ∀ pc S i sz, amLk rX2_init pc = some S → decode cX2_init pc = .ok (i, sz) → amSiteP pc G l yX2_init.cls yX2_init.name yX2_init.desc (amRm 1 1 7) i sz S.1 S.2.1 S.2.2.1 S.2.2.2 := amLk_ok (by
  refine List.forall_mem_cons.mpr ⟨⟨_, _, dX2_init_1, amSite.P (amSiteO rfl (by decide) q134 q121 q122)⟩, ?_⟩
  refine List.forall_mem_cons.mpr ⟨⟨_, _, dX2_init_9, amSite.P (amSitePutF ⟨_, rfl, by decide, Or.inl q135⟩ (fun q h => by cases h; rfl))⟩, ?_⟩
  exact fun _ h => absurd h List.not_mem_nil)
theorem goX2_init {ret F} (hF : amCld cX2_init kX2_init (amLk rX2_init) none 1 7 ret F) (n : Nat) {pc ls st h k z} (q : sX2_init ret F n pc ls st h k z) : F pc ls st h k z := hF.1 n pc ls st h k z q
theorem metX2_init (l : Launch) (G : amG) : amMet l G yX2_init (ws_ yX2_init cX2_init 1 none) 1 1 7 tX2_init := by
  refine amMet_of (cut := kX2_init) (by decide +kernel) (evX2_init l G) ?_
  intro as h K hT
  match as, hT with
  | [.ref a], ⟨h1, a24, an, z1, hK⟩ =>
  refine ⟨Nat.le_of_ble_eq_true rfl, fun F hF => ?_⟩
  show F 0 [.ref a] [] h 0 0
  obtain ⟨a, rfl⟩ : ∃ i : Nat, i = a := ⟨_, rfl⟩
  have a24 : (24 : Nat) ≤ a := a24
  have an : (a : Nat) + 1 = h.2.2.2.2 := an
  have a24' := nI24 a24
  have n1 : (amNew h (2, 7)).1 a = (0, 2) := by rw [amNew_1 (by omega)]; exact h1
  have key := hK (amWr (amNew h (2, 7)) a 0 (.ref h.2.2.2.2)) ⟨rfl, fun i hi hia => (amNew_same hi).tr (amWr_same hia)⟩ ⟨n1, by rw [an]; exact amNew_s0, by rw [an]; exact amWr_r⟩ ⟨Nat.zero_le _, fun x hx => absurd hx List.not_mem_nil, by
    show (amNew h (2, 7)).2.1 a 1 = _
    rw [amNew_i (by omega)]; exact z1, fun i hi => absurd hi (Nat.not_lt_zero i)⟩
  refine goX2_init hF 30 ?_
  simp (disch := omega) only [wX2_init_0, uX2_init_0, wX2_init_1, wX2_init_4, wX2_init_5, wX2_init_7, wX2_init_9, wX2_init_12, amSI_1, amSI_2, amSI_3, amSI_s, amU_at, amIsR_ref, amIsR_null, amIsR_rf, amRf_some, amRf_none, amClr_int, amClr_ref, amClr_null, amClr_long, amClr_ra, amClr_rf, amFit_int, amFit_oref, amFit_aref, amFit_onull, amFit_anull, amOptSome, amOptNone, List.cons_append, List.nil_append, true_and, and_true, true_implies, not_true_eq_false, not_false_eq_true, false_implies, and_self, Nat.add_zero, Nat.zero_add, ne_eq, Prod.mk.injEq, amC01_0, amC01_1, amC01_nb, amNb0, amNb1, amTcpI_d, Nat.reduceLeDiff, Nat.reduceAdd, Nat.reduceSub, Nat.reduceEqDiff, Nat.le_refl, amN0le, amLeI, amLtI, amEqI, amLe0, amGt0, amEq0, amNotPosI, amGe0, amVI, amCl_nI, amAdd, amSub, amMul, a24', n1]
  exact amRet.of (by decide) (by decide) key
theorem tX2_init_d {a : Nat} {h : amH} {K : Option Value → amH → Prop} : tX2_init [.ref a] h K = (h.1 a = (0, 2) ∧ (24 : Nat) ≤ a ∧ (a : Nat) + 1 = h.2.2.2.2 ∧ h.2.1 a 1 = nI 0 ∧ ∀ h', nwFr h h' a 1 → bdAt h' a → bdIs h'.2.1 a [] → K none h') := rfl
/-- a house as it is made -/
def HSi : HS := ([], [], [], 0, 2, 5, 0, 1)
def tX1_init : amT := fun as h K => match as with
  | [.ref a] => h.1 a = (0, 1) ∧ (24 : Nat) ≤ a ∧ (a : Nat) + 1 = h.2.2.2.2 ∧ (∀ j : Nat, h.2.1 a j = 0) ∧ ∀ h', nwFr h h' a 4 → hsAt h' a → HsIs h'.2.1 a HSi → K none h'
  | _ => False
/-! ReadingStages$House.<init>()V -/
def kX1_init : Nat → Bool := fun pc => pc == 28
def rX1_init : List (Nat × amS) := [(1, 1, 0, 0, amIsRef (fun _ h K => K none h)), (9, 2, 0, 0, amTput 1 0), (17, 2, 0, 0, amTput 1 1), (21, 0, 1, 2, amTnew 2), (25, 1, 1, 7, (amIsRef tX2_init)), (28, 2, 0, 0, amTput 1 2), (33, 2, 0, 0, amTput 1 4), (38, 2, 0, 0, amTput 1 5), (43, 2, 0, 0, amTput 1 7)]
def eX1_init (ret : Option Value → amH → Nat → Nat → Prop) (F : amX) : Nat → amX := amWp cX1_init kX1_init (amLk rX1_init) none 5 40 ret F
def sX1_init (ret : Option Value → amH → Nat → Nat → Prop) (F : amX) : Nat → amX := amWs cX1_init kX1_init (amLk rX1_init) none 5 40 ret F
theorem wX1_init_0 {ret F n h k z} {v0 st} : eX1_init ret F (n + 1) 0 [v0] (st) h k z = (amIsR v0 ∧ eX1_init ret F n 1 [v0] (v0 :: st) h k z) := (amWp_dec rfl dX1_init_0 rfl).trans rfl
theorem uX1_init_0 {ret F n h k z} {v0 st} : sX1_init ret F n 0 [v0] (st) h k z = (amIsR v0 ∧ eX1_init ret F n 1 [v0] (v0 :: st) h k z) := (amWs_dec dX1_init_0 rfl).trans rfl
theorem wX1_init_1 {ret F n h k z} {v0 x0} : eX1_init ret F (n + 1) 1 [v0] (.ref x0 :: []) h k z = (k + 0 ≤ 5 ∧ z + 0 ≤ 40 ∧ eX1_init ret F n 4 [v0] ([]) h (k + 0) (z + 0)) := (amWp_dec rfl dX1_init_1 rfl).trans (amS2 (Nat.le_of_ble_eq_true rfl) (Nat.le_of_ble_eq_true rfl))
theorem wX1_init_4 {ret F n h k z} {v0 st} : eX1_init ret F (n + 1) 4 [v0] (st) h k z = (amIsR v0 ∧ eX1_init ret F n 5 [v0] (v0 :: st) h k z) := (amWp_dec rfl dX1_init_4 rfl).trans rfl
theorem wX1_init_5 {ret F n h k z} {v0 st} : eX1_init ret F (n + 1) 5 [v0] (st) h k z = (eX1_init ret F n 7 [v0] (.int (nI 7) :: st) h k z) := (amWp_dec rfl dX1_init_5 rfl).trans rfl
theorem wX1_init_7 {ret F n h k z} {v0 st x} : eX1_init ret F (n + 1) 7 [v0] (.int x :: st) h k z = (¬ x < 0 ∧ x.toNatClampNeg ≤ 67108864 ∧ k + 1 ≤ 5 ∧ z + x.toNatClampNeg ≤ 40 ∧ eX1_init ret F n 9 [v0] (.ref h.2.2.2.2 :: st) (amNew h (1, x.toNatClampNeg)) (k + 1) (z + x.toNatClampNeg)) := (amWp_dec rfl dX1_init_7 rfl).trans (amTrue (Nat.le_of_ble_eq_true rfl))
theorem wX1_init_9 {ret F n h k z} {v0 w a} : eX1_init ret F (n + 1) 9 [v0] (w :: .ref a :: []) h k z = (k + 0 ≤ 5 ∧ z + 0 ≤ 40 ∧ h.1 a = (0, 1) ∧ amN0 ≤ a ∧ amFit (.array .int) w ∧ eX1_init ret F n 12 [v0] ([]) (amWr h a 0 w) (k + 0) (z + 0)) := (amWp_dec rfl dX1_init_9 rfl).trans (amS2 (Nat.le_of_ble_eq_true rfl) (Nat.le_of_ble_eq_true rfl))
theorem wX1_init_12 {ret F n h k z} {v0 st} : eX1_init ret F (n + 1) 12 [v0] (st) h k z = (amIsR v0 ∧ eX1_init ret F n 13 [v0] (v0 :: st) h k z) := (amWp_dec rfl dX1_init_12 rfl).trans rfl
theorem wX1_init_13 {ret F n h k z} {v0 st} : eX1_init ret F (n + 1) 13 [v0] (st) h k z = (eX1_init ret F n 15 [v0] (.int (nI 7) :: st) h k z) := (amWp_dec rfl dX1_init_13 rfl).trans rfl
theorem wX1_init_15 {ret F n h k z} {v0 st x} : eX1_init ret F (n + 1) 15 [v0] (.int x :: st) h k z = (¬ x < 0 ∧ x.toNatClampNeg ≤ 67108864 ∧ k + 1 ≤ 5 ∧ z + x.toNatClampNeg ≤ 40 ∧ eX1_init ret F n 17 [v0] (.ref h.2.2.2.2 :: st) (amNew h (2, x.toNatClampNeg)) (k + 1) (z + x.toNatClampNeg)) := (amWp_dec rfl dX1_init_15 rfl).trans (amTrue (Nat.le_of_ble_eq_true rfl))
theorem wX1_init_17 {ret F n h k z} {v0 w a} : eX1_init ret F (n + 1) 17 [v0] (w :: .ref a :: []) h k z = (k + 0 ≤ 5 ∧ z + 0 ≤ 40 ∧ h.1 a = (0, 1) ∧ amN0 ≤ a ∧ amFit (.array .byte) w ∧ eX1_init ret F n 20 [v0] ([]) (amWr h a 1 w) (k + 0) (z + 0)) := (amWp_dec rfl dX1_init_17 rfl).trans (amS2 (Nat.le_of_ble_eq_true rfl) (Nat.le_of_ble_eq_true rfl))
theorem wX1_init_20 {ret F n h k z} {v0 st} : eX1_init ret F (n + 1) 20 [v0] (st) h k z = (amIsR v0 ∧ eX1_init ret F n 21 [v0] (v0 :: st) h k z) := (amWp_dec rfl dX1_init_20 rfl).trans rfl
theorem wX1_init_21 {ret F n h k z} {v0 r0} : eX1_init ret F (n + 1) 21 [v0] (r0 :: []) h k z = (k + 1 ≤ 5 ∧ z + 2 ≤ 40 ∧ eX1_init ret F n 24 [v0] (.ref h.2.2.2.2 :: r0 :: []) (amNew h (0, 2)) (k + 1) (z + 2)) := (amWp_dec rfl dX1_init_21 rfl).trans (amS2 (Nat.le_of_ble_eq_true rfl) (Nat.le_of_ble_eq_true rfl))
theorem wX1_init_24 {ret F n h k z} {v0 st b} : eX1_init ret F (n + 1) 24 [v0] (.ref b :: st) h k z = (eX1_init ret F n 25 [v0] (.ref b :: .ref b :: st) h k z) := (amWp_dec rfl dX1_init_24 rfl).trans (amTrue rfl)
theorem wX1_init_25 {ret F n h k z} {v0 x0 r0 r1} : eX1_init ret F (n + 1) 25 [v0] (.ref x0 :: r0 :: r1 :: []) h k z = (k + 1 ≤ 5 ∧ z + 7 ≤ 40 ∧ tX2_init [.ref x0] h (fun v h => eX1_init ret F n 28 [v0] (v.toList ++ (r0 :: r1 :: [])) h (k + 1) (z + 7))) := (amWp_dec rfl dX1_init_25 rfl).trans (amS2 (Nat.le_of_ble_eq_true rfl) (Nat.le_of_ble_eq_true rfl))
theorem wX1_init_28 {ret F n ls st h k z} : eX1_init ret F (n + 1) 28 ls st h k z = F 28 ls st h k z := amWp_cut rfl
theorem uX1_init_28 {ret F n h k z} {v0 w a} : sX1_init ret F n 28 [v0] (w :: .ref a :: []) h k z = (k + 0 ≤ 5 ∧ z + 0 ≤ 40 ∧ h.1 a = (0, 1) ∧ amN0 ≤ a ∧ amFit (.object "ReadingStages$Board") w ∧ eX1_init ret F n 31 [v0] ([]) (amWr h a 2 w) (k + 0) (z + 0)) := (amWs_dec dX1_init_28 rfl).trans (amS2 (Nat.le_of_ble_eq_true rfl) (Nat.le_of_ble_eq_true rfl))
theorem wX1_init_31 {ret F n h k z} {v0 st} : eX1_init ret F (n + 1) 31 [v0] (st) h k z = (amIsR v0 ∧ eX1_init ret F n 32 [v0] (v0 :: st) h k z) := (amWp_dec rfl dX1_init_31 rfl).trans rfl
theorem wX1_init_32 {ret F n h k z} {v0 st} : eX1_init ret F (n + 1) 32 [v0] (st) h k z = (eX1_init ret F n 33 [v0] (.int (nI 2) :: st) h k z) := (amWp_dec rfl dX1_init_32 rfl).trans rfl
theorem wX1_init_33 {ret F n h k z} {v0 x a} : eX1_init ret F (n + 1) 33 [v0] (.int x :: .ref a :: []) h k z = (k + 0 ≤ 5 ∧ z + 0 ≤ 40 ∧ h.1 a = (0, 1) ∧ amN0 ≤ a ∧ amFit .int (.int x) ∧ eX1_init ret F n 36 [v0] ([]) (amSI h (amU h.2.1 a 4 x)) (k + 0) (z + 0)) := (amWp_dec rfl dX1_init_33 rfl).trans (amS2 (Nat.le_of_ble_eq_true rfl) (Nat.le_of_ble_eq_true rfl))
theorem wX1_init_36 {ret F n h k z} {v0 st} : eX1_init ret F (n + 1) 36 [v0] (st) h k z = (amIsR v0 ∧ eX1_init ret F n 37 [v0] (v0 :: st) h k z) := (amWp_dec rfl dX1_init_36 rfl).trans rfl
theorem wX1_init_37 {ret F n h k z} {v0 st} : eX1_init ret F (n + 1) 37 [v0] (st) h k z = (eX1_init ret F n 38 [v0] (.int (nI 5) :: st) h k z) := (amWp_dec rfl dX1_init_37 rfl).trans rfl
theorem wX1_init_38 {ret F n h k z} {v0 x a} : eX1_init ret F (n + 1) 38 [v0] (.int x :: .ref a :: []) h k z = (k + 0 ≤ 5 ∧ z + 0 ≤ 40 ∧ h.1 a = (0, 1) ∧ amN0 ≤ a ∧ amFit .int (.int x) ∧ eX1_init ret F n 41 [v0] ([]) (amSI h (amU h.2.1 a 5 x)) (k + 0) (z + 0)) := (amWp_dec rfl dX1_init_38 rfl).trans (amS2 (Nat.le_of_ble_eq_true rfl) (Nat.le_of_ble_eq_true rfl))
theorem wX1_init_41 {ret F n h k z} {v0 st} : eX1_init ret F (n + 1) 41 [v0] (st) h k z = (amIsR v0 ∧ eX1_init ret F n 42 [v0] (v0 :: st) h k z) := (amWp_dec rfl dX1_init_41 rfl).trans rfl
theorem wX1_init_42 {ret F n h k z} {v0 st} : eX1_init ret F (n + 1) 42 [v0] (st) h k z = (eX1_init ret F n 43 [v0] (.int (nI 1) :: st) h k z) := (amWp_dec rfl dX1_init_42 rfl).trans rfl
theorem wX1_init_43 {ret F n h k z} {v0 x a} : eX1_init ret F (n + 1) 43 [v0] (.int x :: .ref a :: []) h k z = (k + 0 ≤ 5 ∧ z + 0 ≤ 40 ∧ h.1 a = (0, 1) ∧ amN0 ≤ a ∧ amFit .int (.int x) ∧ eX1_init ret F n 46 [v0] ([]) (amSI h (amU h.2.1 a 7 x)) (k + 0) (z + 0)) := (amWp_dec rfl dX1_init_43 rfl).trans (amS2 (Nat.le_of_ble_eq_true rfl) (Nat.le_of_ble_eq_true rfl))
theorem wX1_init_46 {ret F n h k z} {v0} : eX1_init ret F (n + 1) 46 [v0] ([]) h k z = (ret none h k z) := (amWp_dec rfl dX1_init_46 rfl).trans (amTrue rfl)
theorem evX1_init (l : Launch) (G : amG) : ∀ pc S i sz, amLk rX1_init pc = some S → decode cX1_init pc = .ok (i, sz) → amSiteP pc G l yX1_init.cls yX1_init.name yX1_init.desc (amRm 2 5 40) i sz S.1 S.2.1 S.2.2.1 S.2.2.2 := amLk_ok (by
  refine List.forall_mem_cons.mpr ⟨⟨_, _, dX1_init_1, amSite.P (amSiteO rfl (by decide) q128 q121 q122)⟩, ?_⟩
  refine List.forall_mem_cons.mpr ⟨⟨_, _, dX1_init_9, amSite.P (amSitePutF ⟨_, rfl, by decide, Or.inl q146⟩ (fun q h => by cases h; rfl))⟩, ?_⟩
  refine List.forall_mem_cons.mpr ⟨⟨_, _, dX1_init_17, amSite.P (amSitePutF ⟨_, rfl, by decide, Or.inl q148⟩ (fun q h => by cases h; rfl))⟩, ?_⟩
  refine List.forall_mem_cons.mpr ⟨⟨_, _, dX1_init_21, amSite.P (amSiteNew (ci := 2) (n := 2) (C := "ReadingStages$Board") ⟨_, rfl, rfl, rfl⟩ q129 q130 q88)⟩, ?_⟩
  refine List.forall_mem_cons.mpr ⟨⟨_, _, dX1_init_25, amSite.P (amSiteIN (host := "ReadingStages") (metX2_init l G) rfl (by decide) (by decide) q133 (List.mem_of_getElem? (i := 0) rfl) q88 q132 ⟨rfl, by decide +kernel, by decide +kernel, by decide +kernel⟩)⟩, ?_⟩
  refine List.forall_mem_cons.mpr ⟨⟨_, _, dX1_init_28, amSite.P (amSitePutF ⟨_, rfl, by decide, Or.inl q150⟩ (fun q h => by cases h; rfl))⟩, ?_⟩
  refine List.forall_mem_cons.mpr ⟨⟨_, _, dX1_init_33, amSite.P (amSitePut ⟨_, rfl, by decide, Or.inl q154⟩ (fun q h => by cases h; rfl))⟩, ?_⟩
  refine List.forall_mem_cons.mpr ⟨⟨_, _, dX1_init_38, amSite.P (amSitePut ⟨_, rfl, by decide, Or.inl q156⟩ (fun q h => by cases h; rfl))⟩, ?_⟩
  refine List.forall_mem_cons.mpr ⟨⟨_, _, dX1_init_43, amSite.P (amSitePut ⟨_, rfl, by decide, Or.inl q160⟩ (fun q h => by cases h; rfl))⟩, ?_⟩
  exact fun _ h => absurd h List.not_mem_nil)
theorem goX1_init {ret F} (hF : amCld cX1_init kX1_init (amLk rX1_init) none 5 40 ret F) (n : Nat) {pc ls st h k z} (q : sX1_init ret F n pc ls st h k z) : F pc ls st h k z := hF.1 n pc ls st h k z q
theorem metX1_init (l : Launch) (G : amG) : amMet l G yX1_init (ws_ yX1_init cX1_init 1 none) 2 5 40 tX1_init := by
  refine amMet_of (cut := kX1_init) (by decide +kernel) (evX1_init l G) ?_
  intro as h K hT
  match as, hT with
  | [.ref a], ⟨h1, a24, an, z1, hK⟩ =>
  refine ⟨Nat.le_of_ble_eq_true rfl, fun F hF => ?_⟩
  show F 0 [.ref a] [] h 0 0
  obtain ⟨a, rfl⟩ : ∃ i : Nat, i = a := ⟨_, rfl⟩
  have a24 : (24 : Nat) ≤ a := a24
  have an : (a : Nat) + 1 = h.2.2.2.2 := an
  have a24' := nI24 a24
  have hn : h.2.2.2.2 = a + 1 := an.symm
  have d2 : (a = a + 1 + 1) = False := eq_false (by omega)
  have d3 : (a = a + 1 + 1 + 1) = False := eq_false (by omega)
  refine goX1_init hF 60 ?_
  simp (disch := omega) only [wX1_init_0, uX1_init_0, wX1_init_1, wX1_init_4, wX1_init_5, wX1_init_7, wX1_init_9, wX1_init_12, wX1_init_13, wX1_init_15, wX1_init_17, wX1_init_20, wX1_init_21, wX1_init_24, wX1_init_25, wX1_init_28, uX1_init_28, wX1_init_31, wX1_init_32, wX1_init_33, wX1_init_36, wX1_init_37, wX1_init_38, wX1_init_41, wX1_init_42, wX1_init_43, wX1_init_46, amSI_1, amSI_2, amSI_3, amSI_s, amU_at, amIsR_ref, amIsR_null, amIsR_rf, amRf_some, amRf_none, amClr_int, amClr_ref, amClr_null, amClr_long, amClr_ra, amClr_rf, amFit_int, amFit_oref, amFit_aref, amFit_onull, amFit_anull, amOptSome, amOptNone, List.cons_append, List.nil_append, true_and, and_true, true_implies, not_true_eq_false, not_false_eq_true, false_implies, and_self, Nat.add_zero, Nat.zero_add, ne_eq, Prod.mk.injEq, amC01_0, amC01_1, amC01_nb, amNb0, amNb1, amTcpI_d, Nat.reduceLeDiff, Nat.reduceAdd, Nat.reduceSub, Nat.reduceEqDiff, Nat.le_refl, amN0le, amLeI, amLtI, amEqI, amLe0, amGt0, amEq0, amNotPosI, amGe0, amVI, amCl_nI, amAdd, amSub, amMul, a24']
  refine ⟨by simp [amNew, amWr, va_up, d2, d3, hn, h1], by simp [amNew, amWr, va_up, d2, d3, hn, h1], ?_⟩
  generalize hg : amNew (amWr (amNew (amWr (amNew h (1, 7)) a 0 (Value.ref h.2.2.2.2)) (2, 7)) a 1 (Value.ref (amWr (amNew h (1, 7)) a 0 (Value.ref h.2.2.2.2)).2.2.2.2)) (0, 2) = g
  have gn : g.2.2.2.2 = a + 4 := by rw [← hg]; simp [amNew, amWr, va_up, d2, d3, hn]
  have g0 : g.1 a = (0, 1) ∧ g.1 (a + 1) = (1, 7) ∧ g.1 (a + 2) = (2, 7) ∧ g.1 (a + 3) = (0, 2) := by rw [← hg]; simp [amNew, amWr, va_up, d2, d3, hn, h1]
  have gr : g.2.2.2.1 a 0 = some (a + 1) ∧ g.2.2.2.1 a 1 = some (a + 2) := by rw [← hg]; simp [amNew, amWr, va_up, d2, d3, hn]
  have gi : (∀ j : Nat, g.2.1 a j = 0) ∧ ∀ j : Nat, g.2.1 (a + 3) j = 0 := by rw [← hg]; simp [amNew, amWr, va_up, d2, d3, hn, z1]
  have gs : ∀ i : Nat, i < a → amSame h g i := by
    intro i hi
    rw [← hg]
    refine ⟨?_, ?_, ?_, ?_⟩ <;> simp [amNew, amWr, va_up, d2, d3, hn, show i ≠ a by omega, show i ≠ a + 1 by omega, show i ≠ a + 1 + 1 by omega, show i ≠ a + 1 + 1 + 1 by omega]
  have e3 : (amWr (amNew (amWr (amNew h (1, 7)) a 0 (Value.ref h.2.2.2.2)) (2, 7)) a 1 (Value.ref (amWr (amNew h (1, 7)) a 0 (Value.ref h.2.2.2.2)).2.2.2.2)).2.2.2.2 = a + 3 := by simp [amNew, amWr, va_up, d2, d3, hn]
  rw [e3, tX2_init_d]
  refine ⟨g0.2.2.2, (by omega), gn.symm, gi.2 1, fun h' f B I => ?_⟩
  obtain ⟨f1, f2⟩ := f
  have sa := f2 a (by omega) (by omega)
  have ha : h'.1 a = (0, 1) := by rw [sa.1]; exact g0.1
  have key := hK (amSI (amWr h' a 2 (.ref (a + 3))) (amU (amU (amU h'.2.1 a 4 (nI 2)) a 5 (nI 5)) a 7 (nI 1))) ⟨by show h'.2.2.2.2 = _; omega, fun i hi hia => ?_⟩ ?_ ?_
  · refine goX1_init hF 60 ?_
    simp (disch := omega) only [wX1_init_0, uX1_init_0, wX1_init_1, wX1_init_4, wX1_init_5, wX1_init_7, wX1_init_9, wX1_init_12, wX1_init_13, wX1_init_15, wX1_init_17, wX1_init_20, wX1_init_21, wX1_init_24, wX1_init_25, wX1_init_28, uX1_init_28, wX1_init_31, wX1_init_32, wX1_init_33, wX1_init_36, wX1_init_37, wX1_init_38, wX1_init_41, wX1_init_42, wX1_init_43, wX1_init_46, amSI_1, amSI_2, amSI_3, amSI_s, amU_at, amIsR_ref, amIsR_null, amIsR_rf, amRf_some, amRf_none, amClr_int, amClr_ref, amClr_null, amClr_long, amClr_ra, amClr_rf, amFit_int, amFit_oref, amFit_aref, amFit_onull, amFit_anull, amOptSome, amOptNone, List.cons_append, List.nil_append, true_and, and_true, true_implies, not_true_eq_false, not_false_eq_true, false_implies, and_self, Nat.add_zero, Nat.zero_add, ne_eq, Prod.mk.injEq, amC01_0, amC01_1, amC01_nb, amNb0, amNb1, amTcpI_d, Nat.reduceLeDiff, Nat.reduceAdd, Nat.reduceSub, Nat.reduceEqDiff, Nat.le_refl, amN0le, amLeI, amLtI, amEqI, amLe0, amGt0, amEq0, amNotPosI, amGe0, amVI, amCl_nI, amAdd, amSub, amMul, a24', ha, amWrR1, amWrR2]
    exact amRet.of (by omega) (by omega) key
  · refine ((gs i (by omega)).tr (f2 i (by omega) (by omega))).tr ((amWr_same (h := h') (v := .ref (a + 3)) (j := 2) hia).tr ⟨rfl, ?_, rfl, rfl⟩)
    show amU (amU (amU h'.2.1 a 4 (nI 2)) a 5 (nI 5)) a 7 (nI 1) i = h'.2.1 i
    rw [amU_neR hia, amU_neR hia, amU_neR hia]
  · have s1 : amSame g h' (a + 1) := f2 (a + 1) (by omega) (by omega)
    have s2 := f2 (a + 2) (by omega) (by omega)
    refine ⟨ha, by show h'.1 (a + 1) = _; rw [s1.1]; exact g0.2.1, by show h'.1 (a + 2) = _; rw [s2.1]; exact g0.2.2.1, ?_, ?_, ?_, B.1, B.2.1, ?_⟩
    · show (amWr h' a 2 (.ref (a + 3))).2.2.2.1 a 0 = _
      exact (amWr_rn (h := h') (b := a + 3) (i := 0) (by decide)).trans ((congrFun sa.2.2.2 0).trans gr.1)
    · show (amWr h' a 2 (.ref (a + 3))).2.2.2.1 a 1 = _
      exact (amWr_rn (h := h') (b := a + 3) (i := 0) (by decide)).trans ((congrFun sa.2.2.2 1).trans gr.2)
    · exact amWr_r
    · show (amWr h' a 2 (.ref (a + 3))).2.2.2.1 (a + 3) 0 = _
      rw [(amWr_same (h := h') (a := a) (j := 2) (v := .ref (a + 3)) (show a + 3 ≠ a by omega)).2.2.2]; exact B.2.2
  · have mi : ∀ j, h'.2.1 a j = 0 := fun j => by rw [sa.2.1]; exact gi.1 j
    refine HsIs.mk (I.kept (by rw [show ∀ m : Nat → Nat → Int32, (amSI (amWr h' a 2 (.ref (a + 3))) m).2.1 = m from fun _ => rfl]; rw [amU_neR (by omega), amU_neR (by omega), amU_neR (by omega)]) (by rw [show ∀ m : Nat → Nat → Int32, (amSI (amWr h' a 2 (.ref (a + 3))) m).2.1 = m from fun _ => rfl]; rw [amU_neR (by omega), amU_neR (by omega), amU_neR (by omega)])) rfl rfl (fun k hk => absurd hk (Nat.not_lt_zero k)) (fun k hk => absurd hk (Nat.not_lt_zero k)) ?_ ?_ ?_ ?_ ?_ (fun x hx => absurd hx List.not_mem_nil)
    · simp (disch := omega) only [amU_at, amU_ne, amU_nj, amU_neR, up_ne, up_at, amSI_2]
      rw [mi]; rfl
    · simp (disch := omega) only [amU_at, amU_ne, amU_nj, amU_neR, up_ne, up_at, amSI_2]
      rfl
    · simp (disch := omega) only [amU_at, amU_ne, amU_nj, amU_neR, up_ne, up_at, amSI_2]
      rfl
    · simp (disch := omega) only [amU_at, amU_ne, amU_nj, amU_neR, up_ne, up_at, amSI_2]
      rw [mi]; rfl
    · simp (disch := omega) only [amU_at, amU_ne, amU_nj, amU_neR, up_ne, up_at, amSI_2]
      rfl
theorem tX1_init_d {a : Nat} {h : amH} {K : Option Value → amH → Prop} : tX1_init [.ref a] h K = (h.1 a = (0, 1) ∧ (24 : Nat) ≤ a ∧ (a : Nat) + 1 = h.2.2.2.2 ∧ (∀ j : Nat, h.2.1 a j = 0) ∧ ∀ h', nwFr h h' a 4 → hsAt h' a → HsIs h'.2.1 a HSi → K none h') := rfl
def tX4_init : amT := fun as h K => match as with
  | [.ref a] => h.1 a = (0, 4) ∧ (24 : Nat) ≤ a ∧ (a : Nat) + 1 = h.2.2.2.2 ∧ ∀ h', nwFr h h' a 1 → h'.1 a = (0, 4) → h'.1 (a + 1) = (3, 90) → h'.2.2.2.1 a 0 = some (a + 1) → h'.2.1 a = h.2.1 a → K none h'
  | _ => False
/-! ReadingStages$Letters.<init>()V -/
def kX4_init : Nat → Bool := fun pc => false
def rX4_init : List (Nat × amS) := [(1, 1, 0, 0, amIsRef (fun _ h K => K none h)), (9, 2, 0, 0, amTput 4 0)]
def eX4_init (ret : Option Value → amH → Nat → Nat → Prop) (F : amX) : Nat → amX := amWp cX4_init kX4_init (amLk rX4_init) none 1 90 ret F
def sX4_init (ret : Option Value → amH → Nat → Nat → Prop) (F : amX) : Nat → amX := amWs cX4_init kX4_init (amLk rX4_init) none 1 90 ret F
theorem wX4_init_0 {ret F n h k z} {v0 st} : eX4_init ret F (n + 1) 0 [v0] (st) h k z = (amIsR v0 ∧ eX4_init ret F n 1 [v0] (v0 :: st) h k z) := (amWp_dec rfl dX4_init_0 rfl).trans rfl
theorem uX4_init_0 {ret F n h k z} {v0 st} : sX4_init ret F n 0 [v0] (st) h k z = (amIsR v0 ∧ eX4_init ret F n 1 [v0] (v0 :: st) h k z) := (amWs_dec dX4_init_0 rfl).trans rfl
theorem wX4_init_1 {ret F n h k z} {v0 x0} : eX4_init ret F (n + 1) 1 [v0] (.ref x0 :: []) h k z = (k + 0 ≤ 1 ∧ z + 0 ≤ 90 ∧ eX4_init ret F n 4 [v0] ([]) h (k + 0) (z + 0)) := (amWp_dec rfl dX4_init_1 rfl).trans (amS2 (Nat.le_of_ble_eq_true rfl) (Nat.le_of_ble_eq_true rfl))
theorem wX4_init_4 {ret F n h k z} {v0 st} : eX4_init ret F (n + 1) 4 [v0] (st) h k z = (amIsR v0 ∧ eX4_init ret F n 5 [v0] (v0 :: st) h k z) := (amWp_dec rfl dX4_init_4 rfl).trans rfl
theorem wX4_init_5 {ret F n h k z} {v0 st} : eX4_init ret F (n + 1) 5 [v0] (st) h k z = (eX4_init ret F n 7 [v0] (.int (nI 90) :: st) h k z) := (amWp_dec rfl dX4_init_5 rfl).trans rfl
theorem wX4_init_7 {ret F n h k z} {v0 st x} : eX4_init ret F (n + 1) 7 [v0] (.int x :: st) h k z = (¬ x < 0 ∧ x.toNatClampNeg ≤ 67108864 ∧ k + 1 ≤ 1 ∧ z + x.toNatClampNeg ≤ 90 ∧ eX4_init ret F n 9 [v0] (.ref h.2.2.2.2 :: st) (amNew h (3, x.toNatClampNeg)) (k + 1) (z + x.toNatClampNeg)) := (amWp_dec rfl dX4_init_7 rfl).trans (amTrue (Nat.le_of_ble_eq_true rfl))
theorem wX4_init_9 {ret F n h k z} {v0 w a} : eX4_init ret F (n + 1) 9 [v0] (w :: .ref a :: []) h k z = (k + 0 ≤ 1 ∧ z + 0 ≤ 90 ∧ h.1 a = (0, 4) ∧ amN0 ≤ a ∧ amFit (.array .char) w ∧ eX4_init ret F n 12 [v0] ([]) (amWr h a 0 w) (k + 0) (z + 0)) := (amWp_dec rfl dX4_init_9 rfl).trans (amS2 (Nat.le_of_ble_eq_true rfl) (Nat.le_of_ble_eq_true rfl))
theorem wX4_init_12 {ret F n h k z} {v0} : eX4_init ret F (n + 1) 12 [v0] ([]) h k z = (ret none h k z) := (amWp_dec rfl dX4_init_12 rfl).trans (amTrue rfl)
theorem evX4_init (l : Launch) (G : amG) : ∀ pc S i sz, amLk rX4_init pc = some S → decode cX4_init pc = .ok (i, sz) → amSiteP pc G l yX4_init.cls yX4_init.name yX4_init.desc (amRm 1 1 90) i sz S.1 S.2.1 S.2.2.1 S.2.2.2 := amLk_ok (by
  refine List.forall_mem_cons.mpr ⟨⟨_, _, dX4_init_1, amSite.P (amSiteO rfl (by decide) q269 q121 q122)⟩, ?_⟩
  refine List.forall_mem_cons.mpr ⟨⟨_, _, dX4_init_9, amSite.P (amSitePutF ⟨_, rfl, by decide, Or.inl q270⟩ (fun q h => by cases h; rfl))⟩, ?_⟩
  exact fun _ h => absurd h List.not_mem_nil)
theorem goX4_init {ret F} (hF : amCld cX4_init kX4_init (amLk rX4_init) none 1 90 ret F) (n : Nat) {pc ls st h k z} (q : sX4_init ret F n pc ls st h k z) : F pc ls st h k z := hF.1 n pc ls st h k z q
theorem metX4_init (l : Launch) (G : amG) : amMet l G yX4_init (ws_ yX4_init cX4_init 1 none) 1 1 90 tX4_init := by
  refine amMet_of (cut := kX4_init) (by decide +kernel) (evX4_init l G) ?_
  intro as h K hT
  match as, hT with
  | [.ref a], ⟨h1, a24, an, hK⟩ =>
  refine ⟨Nat.le_of_ble_eq_true rfl, fun F hF => ?_⟩
  show F 0 [.ref a] [] h 0 0
  obtain ⟨a, rfl⟩ : ∃ i : Nat, i = a := ⟨_, rfl⟩
  have a24 : (24 : Nat) ≤ a := a24
  have an : (a : Nat) + 1 = h.2.2.2.2 := an
  have a24' := nI24 a24
  have n1 : (amNew h (3, 90)).1 a = (0, 4) := by rw [amNew_1 (by omega)]; exact h1
  have key := hK (amWr (amNew h (3, 90)) a 0 (.ref h.2.2.2.2)) ⟨rfl, fun i hi hia => (amNew_same hi).tr (amWr_same hia)⟩ n1 (by rw [an]; exact amNew_s0) (by rw [an]; exact amWr_r) (by
    show (amNew h (3, 90)).2.1 a = _
    rw [amNew_i (by omega)])
  refine goX4_init hF 30 ?_
  simp (disch := omega) only [wX4_init_0, uX4_init_0, wX4_init_1, wX4_init_4, wX4_init_5, wX4_init_7, wX4_init_9, wX4_init_12, amSI_1, amSI_2, amSI_3, amSI_s, amU_at, amIsR_ref, amIsR_null, amIsR_rf, amRf_some, amRf_none, amClr_int, amClr_ref, amClr_null, amClr_long, amClr_ra, amClr_rf, amFit_int, amFit_oref, amFit_aref, amFit_onull, amFit_anull, amOptSome, amOptNone, List.cons_append, List.nil_append, true_and, and_true, true_implies, not_true_eq_false, not_false_eq_true, false_implies, and_self, Nat.add_zero, Nat.zero_add, ne_eq, Prod.mk.injEq, amC01_0, amC01_1, amC01_nb, amNb0, amNb1, amTcpI_d, Nat.reduceLeDiff, Nat.reduceAdd, Nat.reduceSub, Nat.reduceEqDiff, Nat.le_refl, amN0le, amLeI, amLtI, amEqI, amLe0, amGt0, amEq0, amNotPosI, amGe0, amVI, amCl_nI, amAdd, amSub, amMul, a24', n1]
  exact amRet.of (by decide) (by decide) key
theorem tX4_init_d {a : Nat} {h : amH} {K : Option Value → amH → Prop} : tX4_init [.ref a] h K = (h.1 a = (0, 4) ∧ (24 : Nat) ≤ a ∧ (a : Nat) + 1 = h.2.2.2.2 ∧ ∀ h', nwFr h h' a 1 → h'.1 a = (0, 4) → h'.1 (a + 1) = (3, 90) → h'.2.2.2.1 a 0 = some (a + 1) → h'.2.1 a = h.2.1 a → K none h') := rfl
def tX5_init : amT := fun as h K => match as with
  | [.ref _] => K none h
  | _ => False
/-! ReadingStages$Sheet.<init>()V -/
def kX5_init : Nat → Bool := fun pc => false
def rX5_init : List (Nat × amS) := [(1, 1, 0, 0, amIsRef (fun _ h K => K none h))]
def eX5_init (ret : Option Value → amH → Nat → Nat → Prop) (F : amX) : Nat → amX := amWp cX5_init kX5_init (amLk rX5_init) none 0 0 ret F
def sX5_init (ret : Option Value → amH → Nat → Nat → Prop) (F : amX) : Nat → amX := amWs cX5_init kX5_init (amLk rX5_init) none 0 0 ret F
theorem wX5_init_0 {ret F n h} {v0 st} : eX5_init ret F (n + 1) 0 [v0] (st) h 0 0 = (amIsR v0 ∧ eX5_init ret F n 1 [v0] (v0 :: st) h 0 0) := (amWp_dec rfl dX5_init_0 rfl).trans rfl
theorem uX5_init_0 {ret F n h} {v0 st} : sX5_init ret F n 0 [v0] (st) h 0 0 = (amIsR v0 ∧ eX5_init ret F n 1 [v0] (v0 :: st) h 0 0) := (amWs_dec dX5_init_0 rfl).trans rfl
theorem wX5_init_1 {ret F n h} {v0 x0} : eX5_init ret F (n + 1) 1 [v0] (.ref x0 :: []) h 0 0 = (eX5_init ret F n 4 [v0] ([]) h 0 0) := (amWp_dec rfl dX5_init_1 rfl).trans (amS4 (Nat.le_of_ble_eq_true rfl) (Nat.le_of_ble_eq_true rfl) (Nat.le_of_ble_eq_true rfl) (Nat.le_of_ble_eq_true rfl))
theorem wX5_init_4 {ret F n h} {v0} : eX5_init ret F (n + 1) 4 [v0] ([]) h 0 0 = (ret none h 0 0) := (amWp_dec rfl dX5_init_4 rfl).trans (amTrue rfl)
theorem evX5_init (l : Launch) (G : amG) : ∀ pc S i sz, amLk rX5_init pc = some S → decode cX5_init pc = .ok (i, sz) → amSiteP pc G l yX5_init.cls yX5_init.name yX5_init.desc (amRm 1 0 0) i sz S.1 S.2.1 S.2.2.1 S.2.2.2 := amLk_ok (by
  refine List.forall_mem_cons.mpr ⟨⟨_, _, dX5_init_1, amSite.P (amSiteO rfl (by decide) q286 q121 q122)⟩, ?_⟩
  exact fun _ h => absurd h List.not_mem_nil)
theorem goX5_init {ret F} (hF : amCld cX5_init kX5_init (amLk rX5_init) none 0 0 ret F) (n : Nat) {pc ls st h k z} (q : sX5_init ret F n pc ls st h k z) : F pc ls st h k z := hF.1 n pc ls st h k z q
theorem metX5_init (l : Launch) (G : amG) : amMet l G yX5_init (ws_ yX5_init cX5_init 1 none) 1 0 0 tX5_init := by
  refine amMet_of (cut := kX5_init) (by decide +kernel) (evX5_init l G) ?_
  intro as h K hT
  match as, hT with
  | [.ref a], hK =>
  refine ⟨Nat.le_of_ble_eq_true rfl, fun F hF => ?_⟩
  show F 0 [.ref a] [] h 0 0
  obtain ⟨a, rfl⟩ : ∃ i : Nat, i = a := ⟨_, rfl⟩
  refine goX5_init hF 30 ?_
  simp (disch := omega) only [wX5_init_0, uX5_init_0, wX5_init_1, wX5_init_4, amSI_1, amSI_2, amSI_3, amSI_s, amU_at, amIsR_ref, amIsR_null, amIsR_rf, amRf_some, amRf_none, amClr_int, amClr_ref, amClr_null, amClr_long, amClr_ra, amClr_rf, amFit_int, amFit_oref, amFit_aref, amFit_onull, amFit_anull, amOptSome, amOptNone, List.cons_append, List.nil_append, true_and, and_true, true_implies, not_true_eq_false, not_false_eq_true, false_implies, and_self, Nat.add_zero, Nat.zero_add, ne_eq, Prod.mk.injEq, amC01_0, amC01_1, amC01_nb, amNb0, amNb1, amTcpI_d, Nat.reduceLeDiff, Nat.reduceAdd, Nat.reduceSub, Nat.reduceEqDiff, Nat.le_refl, amN0le]
  exact amRet.of (by decide) (by decide) hK
theorem tX5_init_d {a : Nat} {h : amH} {K : Option Value → amH → Prop} : tX5_init [.ref a] h K = K none h := rfl
/-- nothing but an object's slots changed -/
def slFr (h h' : amH) (a : Nat) : Prop := h'.2.2.2.2 = h.2.2.2.2 ∧ h'.1 = h.1 ∧ ∀ i : Nat, i ≠ a → amSame h h' i
theorem slFr.rf (h : amH) (a : Nat) : slFr h h a := ⟨rfl, rfl, fun i _ => amSame.rf h i⟩
theorem amWr_1 {h : amH} {a f : Nat} {v : Value} : (amWr h a f v).1 = h.1 := by cases v <;> rfl
theorem slFr.wr {h g : amH} {a f : Nat} {v : Value} (q : slFr h g a) : slFr h (amWr g a f v) a := ⟨by rw [amWr_n]; exact q.1, by rw [amWr_1]; exact q.2.1, fun i hi => (q.2.2 i hi).tr (amWr_same hi)⟩
def tJ0_init_2 : amT := fun as h K => match as with
  | [.ref a, .null, .null, .int x, .int y] => h.1 a = (0, 3) ∧ (24 : Nat) ≤ a ∧ x = nI 0 ∧ y = nI 0 ∧ ∀ h', slFr h h' a → K none h'
  | _ => False
/-! java/lang/Throwable.<init>(Ljava/lang/String;Ljava/lang/Throwable;ZZ)V -/
def kJ0_init_2 : Nat → Bool := fun pc => false
def rJ0_init_2 : List (Nat × amS) := [(1, 1, 0, 0, amIsRef (fun _ h K => K none h)), (6, 2, 0, 0, amTput 3 0), (10, 0, 0, 0, amTgsx 20), (13, 2, 0, 0, amTput 3 1), (17, 0, 0, 0, amTgsx 21), (20, 2, 0, 0, amTput 3 2), (38, 2, 0, 0, amTput 3 1), (43, 2, 0, 0, amTput 3 3), (48, 2, 0, 0, amTput 3 0), (57, 2, 0, 0, amTput 3 2)]
def eJ0_init_2 (ret : Option Value → amH → Nat → Nat → Prop) (F : amX) : Nat → amX := amWp cJ0_init_2 kJ0_init_2 (amLk rJ0_init_2) none 0 0 ret F
def sJ0_init_2 (ret : Option Value → amH → Nat → Nat → Prop) (F : amX) : Nat → amX := amWs cJ0_init_2 kJ0_init_2 (amLk rJ0_init_2) none 0 0 ret F
theorem wJ0_init_2_0 {ret F n h} {v0 v1 v2 v3 v4 st} : eJ0_init_2 ret F (n + 1) 0 [v0, v1, v2, v3, v4] (st) h 0 0 = (amIsR v0 ∧ eJ0_init_2 ret F n 1 [v0, v1, v2, v3, v4] (v0 :: st) h 0 0) := (amWp_dec rfl dJ0_init_2_0 rfl).trans rfl
theorem uJ0_init_2_0 {ret F n h} {v0 v1 v2 v3 v4 st} : sJ0_init_2 ret F n 0 [v0, v1, v2, v3, v4] (st) h 0 0 = (amIsR v0 ∧ eJ0_init_2 ret F n 1 [v0, v1, v2, v3, v4] (v0 :: st) h 0 0) := (amWs_dec dJ0_init_2_0 rfl).trans rfl
theorem wJ0_init_2_1 {ret F n h} {v0 v1 v2 v3 v4 x0} : eJ0_init_2 ret F (n + 1) 1 [v0, v1, v2, v3, v4] (.ref x0 :: []) h 0 0 = (eJ0_init_2 ret F n 4 [v0, v1, v2, v3, v4] ([]) h 0 0) := (amWp_dec rfl dJ0_init_2_1 rfl).trans (amS4 (Nat.le_of_ble_eq_true rfl) (Nat.le_of_ble_eq_true rfl) (Nat.le_of_ble_eq_true rfl) (Nat.le_of_ble_eq_true rfl))
theorem wJ0_init_2_4 {ret F n h} {v0 v1 v2 v3 v4 st} : eJ0_init_2 ret F (n + 1) 4 [v0, v1, v2, v3, v4] (st) h 0 0 = (amIsR v0 ∧ eJ0_init_2 ret F n 5 [v0, v1, v2, v3, v4] (v0 :: st) h 0 0) := (amWp_dec rfl dJ0_init_2_4 rfl).trans rfl
theorem wJ0_init_2_5 {ret F n h} {v0 v1 v2 v3 v4 st} : eJ0_init_2 ret F (n + 1) 5 [v0, v1, v2, v3, v4] (st) h 0 0 = (amIsR v0 ∧ eJ0_init_2 ret F n 6 [v0, v1, v2, v3, v4] (v0 :: st) h 0 0) := (amWp_dec rfl dJ0_init_2_5 rfl).trans rfl
theorem wJ0_init_2_6 {ret F n h} {v0 v1 v2 v3 v4 w a} : eJ0_init_2 ret F (n + 1) 6 [v0, v1, v2, v3, v4] (w :: .ref a :: []) h 0 0 = (h.1 a = (0, 3) ∧ amN0 ≤ a ∧ amFit (.object "java/lang/Throwable") w ∧ eJ0_init_2 ret F n 9 [v0, v1, v2, v3, v4] ([]) (amWr h a 0 w) 0 0) := (amWp_dec rfl dJ0_init_2_6 rfl).trans (amS4 (Nat.le_of_ble_eq_true rfl) (Nat.le_of_ble_eq_true rfl) (Nat.le_of_ble_eq_true rfl) (Nat.le_of_ble_eq_true rfl))
theorem wJ0_init_2_9 {ret F n h} {v0 v1 v2 v3 v4 st} : eJ0_init_2 ret F (n + 1) 9 [v0, v1, v2, v3, v4] (st) h 0 0 = (amIsR v0 ∧ eJ0_init_2 ret F n 10 [v0, v1, v2, v3, v4] (v0 :: st) h 0 0) := (amWp_dec rfl dJ0_init_2_9 rfl).trans rfl
theorem wJ0_init_2_10 {ret F n h} {v0 v1 v2 v3 v4 r0} : eJ0_init_2 ret F (n + 1) 10 [v0, v1, v2, v3, v4] (r0 :: []) h 0 0 = (eJ0_init_2 ret F n 13 [v0, v1, v2, v3, v4] (.null :: r0 :: []) h 0 0 ∧ eJ0_init_2 ret F n 13 [v0, v1, v2, v3, v4] (.ref 20 :: r0 :: []) h 0 0) := (amWp_dec rfl dJ0_init_2_10 rfl).trans (amS4 (Nat.le_of_ble_eq_true rfl) (Nat.le_of_ble_eq_true rfl) (Nat.le_of_ble_eq_true rfl) (Nat.le_of_ble_eq_true rfl))
theorem wJ0_init_2_13 {ret F n h} {v0 v1 v2 v3 v4 w a} : eJ0_init_2 ret F (n + 1) 13 [v0, v1, v2, v3, v4] (w :: .ref a :: []) h 0 0 = (h.1 a = (0, 3) ∧ amN0 ≤ a ∧ amFit (.array (.object "java/lang/StackTraceElement")) w ∧ eJ0_init_2 ret F n 16 [v0, v1, v2, v3, v4] ([]) (amWr h a 1 w) 0 0) := (amWp_dec rfl dJ0_init_2_13 rfl).trans (amS4 (Nat.le_of_ble_eq_true rfl) (Nat.le_of_ble_eq_true rfl) (Nat.le_of_ble_eq_true rfl) (Nat.le_of_ble_eq_true rfl))
theorem wJ0_init_2_16 {ret F n h} {v0 v1 v2 v3 v4 st} : eJ0_init_2 ret F (n + 1) 16 [v0, v1, v2, v3, v4] (st) h 0 0 = (amIsR v0 ∧ eJ0_init_2 ret F n 17 [v0, v1, v2, v3, v4] (v0 :: st) h 0 0) := (amWp_dec rfl dJ0_init_2_16 rfl).trans rfl
theorem wJ0_init_2_17 {ret F n h} {v0 v1 v2 v3 v4 r0} : eJ0_init_2 ret F (n + 1) 17 [v0, v1, v2, v3, v4] (r0 :: []) h 0 0 = (eJ0_init_2 ret F n 20 [v0, v1, v2, v3, v4] (.null :: r0 :: []) h 0 0 ∧ eJ0_init_2 ret F n 20 [v0, v1, v2, v3, v4] (.ref 21 :: r0 :: []) h 0 0) := (amWp_dec rfl dJ0_init_2_17 rfl).trans (amS4 (Nat.le_of_ble_eq_true rfl) (Nat.le_of_ble_eq_true rfl) (Nat.le_of_ble_eq_true rfl) (Nat.le_of_ble_eq_true rfl))
theorem wJ0_init_2_20 {ret F n h} {v0 v1 v2 v3 v4 w a} : eJ0_init_2 ret F (n + 1) 20 [v0, v1, v2, v3, v4] (w :: .ref a :: []) h 0 0 = (h.1 a = (0, 3) ∧ amN0 ≤ a ∧ amFit (.object "java/util/List") w ∧ eJ0_init_2 ret F n 23 [v0, v1, v2, v3, v4] ([]) (amWr h a 2 w) 0 0) := (amWp_dec rfl dJ0_init_2_20 rfl).trans (amS4 (Nat.le_of_ble_eq_true rfl) (Nat.le_of_ble_eq_true rfl) (Nat.le_of_ble_eq_true rfl) (Nat.le_of_ble_eq_true rfl))
theorem wJ0_init_2_23 {ret F n h} {v0 v1 v2 v3 st x} : eJ0_init_2 ret F (n + 1) 23 [v0, v1, v2, v3, .int x] (st) h 0 0 = (eJ0_init_2 ret F n 25 [v0, v1, v2, v3, .int x] (.int x :: st) h 0 0) := (amWp_dec rfl dJ0_init_2_23 rfl).trans rfl
theorem wJ0_init_2_25 {ret F n h} {v0 v1 v2 v3 v4 st x} : eJ0_init_2 ret F (n + 1) 25 [v0, v1, v2, v3, v4] (.int x :: st) h 0 0 = ((x = 0 → eJ0_init_2 ret F n 36 [v0, v1, v2, v3, v4] (st) h 0 0) ∧ (¬ x = 0 → eJ0_init_2 ret F n 28 [v0, v1, v2, v3, v4] (st) h 0 0)) := (amWp_dec rfl dJ0_init_2_25 rfl).trans rfl
theorem wJ0_init_2_36 {ret F n h} {v0 v1 v2 v3 v4 st} : eJ0_init_2 ret F (n + 1) 36 [v0, v1, v2, v3, v4] (st) h 0 0 = (amIsR v0 ∧ eJ0_init_2 ret F n 37 [v0, v1, v2, v3, v4] (v0 :: st) h 0 0) := (amWp_dec rfl dJ0_init_2_36 rfl).trans rfl
theorem wJ0_init_2_37 {ret F n h} {v0 v1 v2 v3 v4 st} : eJ0_init_2 ret F (n + 1) 37 [v0, v1, v2, v3, v4] (st) h 0 0 = (eJ0_init_2 ret F n 38 [v0, v1, v2, v3, v4] (.null :: st) h 0 0) := (amWp_dec rfl dJ0_init_2_37 rfl).trans rfl
theorem wJ0_init_2_38 {ret F n h} {v0 v1 v2 v3 v4 w a} : eJ0_init_2 ret F (n + 1) 38 [v0, v1, v2, v3, v4] (w :: .ref a :: []) h 0 0 = (h.1 a = (0, 3) ∧ amN0 ≤ a ∧ amFit (.array (.object "java/lang/StackTraceElement")) w ∧ eJ0_init_2 ret F n 41 [v0, v1, v2, v3, v4] ([]) (amWr h a 1 w) 0 0) := (amWp_dec rfl dJ0_init_2_38 rfl).trans (amS4 (Nat.le_of_ble_eq_true rfl) (Nat.le_of_ble_eq_true rfl) (Nat.le_of_ble_eq_true rfl) (Nat.le_of_ble_eq_true rfl))
theorem wJ0_init_2_41 {ret F n h} {v0 v1 v2 v3 v4 st} : eJ0_init_2 ret F (n + 1) 41 [v0, v1, v2, v3, v4] (st) h 0 0 = (amIsR v0 ∧ eJ0_init_2 ret F n 42 [v0, v1, v2, v3, v4] (v0 :: st) h 0 0) := (amWp_dec rfl dJ0_init_2_41 rfl).trans rfl
theorem wJ0_init_2_42 {ret F n h} {v0 v1 v2 v3 v4 st} : eJ0_init_2 ret F (n + 1) 42 [v0, v1, v2, v3, v4] (st) h 0 0 = (amIsR v1 ∧ eJ0_init_2 ret F n 43 [v0, v1, v2, v3, v4] (v1 :: st) h 0 0) := (amWp_dec rfl dJ0_init_2_42 rfl).trans rfl
theorem wJ0_init_2_43 {ret F n h} {v0 v1 v2 v3 v4 w a} : eJ0_init_2 ret F (n + 1) 43 [v0, v1, v2, v3, v4] (w :: .ref a :: []) h 0 0 = (h.1 a = (0, 3) ∧ amN0 ≤ a ∧ amFit (.object "java/lang/String") w ∧ eJ0_init_2 ret F n 46 [v0, v1, v2, v3, v4] ([]) (amWr h a 3 w) 0 0) := (amWp_dec rfl dJ0_init_2_43 rfl).trans (amS4 (Nat.le_of_ble_eq_true rfl) (Nat.le_of_ble_eq_true rfl) (Nat.le_of_ble_eq_true rfl) (Nat.le_of_ble_eq_true rfl))
theorem wJ0_init_2_46 {ret F n h} {v0 v1 v2 v3 v4 st} : eJ0_init_2 ret F (n + 1) 46 [v0, v1, v2, v3, v4] (st) h 0 0 = (amIsR v0 ∧ eJ0_init_2 ret F n 47 [v0, v1, v2, v3, v4] (v0 :: st) h 0 0) := (amWp_dec rfl dJ0_init_2_46 rfl).trans rfl
theorem wJ0_init_2_47 {ret F n h} {v0 v1 v2 v3 v4 st} : eJ0_init_2 ret F (n + 1) 47 [v0, v1, v2, v3, v4] (st) h 0 0 = (amIsR v2 ∧ eJ0_init_2 ret F n 48 [v0, v1, v2, v3, v4] (v2 :: st) h 0 0) := (amWp_dec rfl dJ0_init_2_47 rfl).trans rfl
theorem wJ0_init_2_48 {ret F n h} {v0 v1 v2 v3 v4 w a} : eJ0_init_2 ret F (n + 1) 48 [v0, v1, v2, v3, v4] (w :: .ref a :: []) h 0 0 = (h.1 a = (0, 3) ∧ amN0 ≤ a ∧ amFit (.object "java/lang/Throwable") w ∧ eJ0_init_2 ret F n 51 [v0, v1, v2, v3, v4] ([]) (amWr h a 0 w) 0 0) := (amWp_dec rfl dJ0_init_2_48 rfl).trans (amS4 (Nat.le_of_ble_eq_true rfl) (Nat.le_of_ble_eq_true rfl) (Nat.le_of_ble_eq_true rfl) (Nat.le_of_ble_eq_true rfl))
theorem wJ0_init_2_51 {ret F n h} {v0 v1 v2 v4 st x} : eJ0_init_2 ret F (n + 1) 51 [v0, v1, v2, .int x, v4] (st) h 0 0 = (eJ0_init_2 ret F n 52 [v0, v1, v2, .int x, v4] (.int x :: st) h 0 0) := (amWp_dec rfl dJ0_init_2_51 rfl).trans rfl
theorem wJ0_init_2_52 {ret F n h} {v0 v1 v2 v3 v4 st x} : eJ0_init_2 ret F (n + 1) 52 [v0, v1, v2, v3, v4] (.int x :: st) h 0 0 = ((¬ x = 0 → eJ0_init_2 ret F n 60 [v0, v1, v2, v3, v4] (st) h 0 0) ∧ (x = 0 → eJ0_init_2 ret F n 55 [v0, v1, v2, v3, v4] (st) h 0 0)) := (amWp_dec rfl dJ0_init_2_52 rfl).trans rfl
theorem wJ0_init_2_55 {ret F n h} {v0 v1 v2 v3 v4 st} : eJ0_init_2 ret F (n + 1) 55 [v0, v1, v2, v3, v4] (st) h 0 0 = (amIsR v0 ∧ eJ0_init_2 ret F n 56 [v0, v1, v2, v3, v4] (v0 :: st) h 0 0) := (amWp_dec rfl dJ0_init_2_55 rfl).trans rfl
theorem wJ0_init_2_56 {ret F n h} {v0 v1 v2 v3 v4 st} : eJ0_init_2 ret F (n + 1) 56 [v0, v1, v2, v3, v4] (st) h 0 0 = (eJ0_init_2 ret F n 57 [v0, v1, v2, v3, v4] (.null :: st) h 0 0) := (amWp_dec rfl dJ0_init_2_56 rfl).trans rfl
theorem wJ0_init_2_57 {ret F n h} {v0 v1 v2 v3 v4 w a} : eJ0_init_2 ret F (n + 1) 57 [v0, v1, v2, v3, v4] (w :: .ref a :: []) h 0 0 = (h.1 a = (0, 3) ∧ amN0 ≤ a ∧ amFit (.object "java/util/List") w ∧ eJ0_init_2 ret F n 60 [v0, v1, v2, v3, v4] ([]) (amWr h a 2 w) 0 0) := (amWp_dec rfl dJ0_init_2_57 rfl).trans (amS4 (Nat.le_of_ble_eq_true rfl) (Nat.le_of_ble_eq_true rfl) (Nat.le_of_ble_eq_true rfl) (Nat.le_of_ble_eq_true rfl))
theorem wJ0_init_2_60 {ret F n h} {v0 v1 v2 v3 v4} : eJ0_init_2 ret F (n + 1) 60 [v0, v1, v2, v3, v4] ([]) h 0 0 = (ret none h 0 0) := (amWp_dec rfl dJ0_init_2_60 rfl).trans (amTrue rfl)
theorem evJ0_init_2 (l : Launch) (G : amG) : ∀ pc S i sz, amLk rJ0_init_2 pc = some S → decode cJ0_init_2 pc = .ok (i, sz) → amSiteP pc G l yJ0_init_2.cls yJ0_init_2.name yJ0_init_2.desc (amRm 1 0 0) i sz S.1 S.2.1 S.2.2.1 S.2.2.2 := amLk_ok (by
  refine List.forall_mem_cons.mpr ⟨⟨_, _, dJ0_init_2_1, amSite.P (amSiteO rfl (by decide) q207 q121 q122)⟩, ?_⟩
  refine List.forall_mem_cons.mpr ⟨⟨_, _, dJ0_init_2_6, amSite.P (amSitePut ⟨_, rfl, by decide, Or.inl q251⟩ (fun q h => by cases h; rfl))⟩, ?_⟩
  refine List.forall_mem_cons.mpr ⟨⟨_, _, dJ0_init_2_10, amSite.P (amSiteGx (List.mem_of_getElem? (i := 0) rfl) q208)⟩, ?_⟩
  refine List.forall_mem_cons.mpr ⟨⟨_, _, dJ0_init_2_13, amSite.P (amSitePut ⟨_, rfl, by decide, Or.inl q252⟩ (fun q h => by cases h; rfl))⟩, ?_⟩
  refine List.forall_mem_cons.mpr ⟨⟨_, _, dJ0_init_2_17, amSite.P (amSiteGx (List.mem_of_getElem? (i := 1) rfl) q210)⟩, ?_⟩
  refine List.forall_mem_cons.mpr ⟨⟨_, _, dJ0_init_2_20, amSite.P (amSitePut ⟨_, rfl, by decide, Or.inl q253⟩ (fun q h => by cases h; rfl))⟩, ?_⟩
  refine List.forall_mem_cons.mpr ⟨⟨_, _, dJ0_init_2_38, amSite.P (amSitePut ⟨_, rfl, by decide, Or.inl q252⟩ (fun q h => by cases h; rfl))⟩, ?_⟩
  refine List.forall_mem_cons.mpr ⟨⟨_, _, dJ0_init_2_43, amSite.P (amSitePut ⟨_, rfl, by decide, Or.inl q250⟩ (fun q h => by cases h; rfl))⟩, ?_⟩
  refine List.forall_mem_cons.mpr ⟨⟨_, _, dJ0_init_2_48, amSite.P (amSitePut ⟨_, rfl, by decide, Or.inl q251⟩ (fun q h => by cases h; rfl))⟩, ?_⟩
  refine List.forall_mem_cons.mpr ⟨⟨_, _, dJ0_init_2_57, amSite.P (amSitePut ⟨_, rfl, by decide, Or.inl q253⟩ (fun q h => by cases h; rfl))⟩, ?_⟩
  exact fun _ h => absurd h List.not_mem_nil)
theorem goJ0_init_2 {ret F} (hF : amCld cJ0_init_2 kJ0_init_2 (amLk rJ0_init_2) none 0 0 ret F) (n : Nat) {pc ls st h k z} (q : sJ0_init_2 ret F n pc ls st h k z) : F pc ls st h k z := hF.1 n pc ls st h k z q
theorem metJ0_init_2 (l : Launch) (G : amG) : amMet l G yJ0_init_2 (ws_ yJ0_init_2 cJ0_init_2 5 none) 1 0 0 tJ0_init_2 := by
  refine amMet_of (cut := kJ0_init_2) (by decide +kernel) (evJ0_init_2 l G) ?_
  intro as h K hT
  match as, hT with
  | [.ref a, .null, .null, .int x, .int y], ⟨h1, a24, e1, e2, hK⟩ =>
  refine ⟨Nat.le_of_ble_eq_true rfl, fun F hF => ?_⟩
  show F 0 [.ref a, .null, .null, .int x, .int y] [] h 0 0
  obtain ⟨a, rfl⟩ : ∃ i : Nat, i = a := ⟨_, rfl⟩
  subst e1 e2
  have a24 : (24 : Nat) ≤ a := a24
  have a24' := nI24 a24
  refine goJ0_init_2 hF 60 ?_
  simp (disch := omega) only [wJ0_init_2_0, uJ0_init_2_0, wJ0_init_2_1, wJ0_init_2_4, wJ0_init_2_5, wJ0_init_2_6, wJ0_init_2_9, wJ0_init_2_10, wJ0_init_2_13, wJ0_init_2_16, wJ0_init_2_17, wJ0_init_2_20, wJ0_init_2_23, wJ0_init_2_25, wJ0_init_2_36, wJ0_init_2_37, wJ0_init_2_38, wJ0_init_2_41, wJ0_init_2_42, wJ0_init_2_43, wJ0_init_2_46, wJ0_init_2_47, wJ0_init_2_48, wJ0_init_2_51, wJ0_init_2_52, wJ0_init_2_55, wJ0_init_2_56, wJ0_init_2_57, wJ0_init_2_60, amSI_1, amSI_2, amSI_3, amSI_s, amU_at, amIsR_ref, amIsR_null, amIsR_rf, amRf_some, amRf_none, amClr_int, amClr_ref, amClr_null, amClr_long, amClr_ra, amClr_rf, amFit_int, amFit_oref, amFit_aref, amFit_onull, amFit_anull, amOptSome, amOptNone, List.cons_append, List.nil_append, true_and, and_true, true_implies, not_true_eq_false, not_false_eq_true, false_implies, and_self, Nat.add_zero, Nat.zero_add, ne_eq, Prod.mk.injEq, amC01_0, amC01_1, amC01_nb, amNb0, amNb1, amTcpI_d, Nat.reduceLeDiff, Nat.reduceAdd, Nat.reduceSub, Nat.reduceEqDiff, Nat.le_refl, amN0le, amLeI, amLtI, amEqI, amLe0, amGt0, amEq0, amNotPosI, amGe0, amVI, amCl_nI, amAdd, amSub, amMul, a24', h1, amWr_1]
  refine ⟨⟨?_, ?_⟩, ⟨?_, ?_⟩⟩ <;> exact amRet.of (by decide) (by decide) (hK _ (by repeat first | apply slFr.wr | exact slFr.rf _ _))
theorem tJ0_init_2_d {a : Nat} {x y : Int32} {h : amH} {K : Option Value → amH → Prop} : tJ0_init_2 [.ref a, .null, .null, .int x, .int y] h K = (h.1 a = (0, 3) ∧ (24 : Nat) ≤ a ∧ x = nI 0 ∧ y = nI 0 ∧ ∀ h', slFr h h' a → K none h') := rfl
def tJ1_init : amT := fun as h K => match as with
  | [.ref a, .null, .null, .int x, .int y] => h.1 a = (0, 3) ∧ (24 : Nat) ≤ a ∧ x = nI 0 ∧ y = nI 0 ∧ ∀ h', slFr h h' a → K none h'
  | _ => False
/-! java/lang/Exception.<init>(Ljava/lang/String;Ljava/lang/Throwable;ZZ)V -/
def kJ1_init : Nat → Bool := fun pc => pc == 9
def rJ1_init : List (Nat × amS) := [(6, 5, 0, 0, (amIsRef tJ0_init_2))]
def eJ1_init (ret : Option Value → amH → Nat → Nat → Prop) (F : amX) : Nat → amX := amWp cJ1_init kJ1_init (amLk rJ1_init) none 0 0 ret F
def sJ1_init (ret : Option Value → amH → Nat → Nat → Prop) (F : amX) : Nat → amX := amWs cJ1_init kJ1_init (amLk rJ1_init) none 0 0 ret F
theorem wJ1_init_0 {ret F n h} {v0 v1 v2 v3 v4 st} : eJ1_init ret F (n + 1) 0 [v0, v1, v2, v3, v4] (st) h 0 0 = (amIsR v0 ∧ eJ1_init ret F n 1 [v0, v1, v2, v3, v4] (v0 :: st) h 0 0) := (amWp_dec rfl dJ1_init_0 rfl).trans rfl
theorem uJ1_init_0 {ret F n h} {v0 v1 v2 v3 v4 st} : sJ1_init ret F n 0 [v0, v1, v2, v3, v4] (st) h 0 0 = (amIsR v0 ∧ eJ1_init ret F n 1 [v0, v1, v2, v3, v4] (v0 :: st) h 0 0) := (amWs_dec dJ1_init_0 rfl).trans rfl
theorem wJ1_init_1 {ret F n h} {v0 v1 v2 v3 v4 st} : eJ1_init ret F (n + 1) 1 [v0, v1, v2, v3, v4] (st) h 0 0 = (amIsR v1 ∧ eJ1_init ret F n 2 [v0, v1, v2, v3, v4] (v1 :: st) h 0 0) := (amWp_dec rfl dJ1_init_1 rfl).trans rfl
theorem wJ1_init_2 {ret F n h} {v0 v1 v2 v3 v4 st} : eJ1_init ret F (n + 1) 2 [v0, v1, v2, v3, v4] (st) h 0 0 = (amIsR v2 ∧ eJ1_init ret F n 3 [v0, v1, v2, v3, v4] (v2 :: st) h 0 0) := (amWp_dec rfl dJ1_init_2 rfl).trans rfl
theorem wJ1_init_3 {ret F n h} {v0 v1 v2 v4 st x} : eJ1_init ret F (n + 1) 3 [v0, v1, v2, .int x, v4] (st) h 0 0 = (eJ1_init ret F n 4 [v0, v1, v2, .int x, v4] (.int x :: st) h 0 0) := (amWp_dec rfl dJ1_init_3 rfl).trans rfl
theorem wJ1_init_4 {ret F n h} {v0 v1 v2 v3 st x} : eJ1_init ret F (n + 1) 4 [v0, v1, v2, v3, .int x] (st) h 0 0 = (eJ1_init ret F n 6 [v0, v1, v2, v3, .int x] (.int x :: st) h 0 0) := (amWp_dec rfl dJ1_init_4 rfl).trans rfl
theorem wJ1_init_6 {ret F n h} {v0 v1 v2 v3 v4 x4 x3 w2 w1 x0} : eJ1_init ret F (n + 1) 6 [v0, v1, v2, v3, v4] (.int x4 :: .int x3 :: w2 :: w1 :: .ref x0 :: []) h 0 0 = (tJ0_init_2 [.ref x0, w1, w2, .int x3, .int x4] h (fun v h => eJ1_init ret F n 9 [v0, v1, v2, v3, v4] (v.toList ++ ([])) h 0 0)) := (amWp_dec rfl dJ1_init_6 rfl).trans (amS4 (Nat.le_of_ble_eq_true rfl) (Nat.le_of_ble_eq_true rfl) (Nat.le_of_ble_eq_true rfl) (Nat.le_of_ble_eq_true rfl))
theorem wJ1_init_9 {ret F n ls st h k z} : eJ1_init ret F (n + 1) 9 ls st h k z = F 9 ls st h k z := amWp_cut rfl
theorem uJ1_init_9 {ret F n h} {v0 v1 v2 v3 v4} : sJ1_init ret F n 9 [v0, v1, v2, v3, v4] ([]) h 0 0 = (ret none h 0 0) := (amWs_dec dJ1_init_9 rfl).trans (amTrue rfl)
theorem evJ1_init (l : Launch) (G : amG) : ∀ pc S i sz, amLk rJ1_init pc = some S → decode cJ1_init pc = .ok (i, sz) → amSiteP pc G l yJ1_init.cls yJ1_init.name yJ1_init.desc (amRm 2 0 0) i sz S.1 S.2.1 S.2.2.1 S.2.2.2 := amLk_ok (by
  refine List.forall_mem_cons.mpr ⟨⟨_, _, dJ1_init_6, amSite.P (amSiteI (metJ0_init_2 l G) rfl (by decide) (by decide) q247 q89 q245 q246 ⟨rfl, by decide +kernel, by decide +kernel, by decide +kernel⟩)⟩, ?_⟩
  exact fun _ h => absurd h List.not_mem_nil)
theorem goJ1_init {ret F} (hF : amCld cJ1_init kJ1_init (amLk rJ1_init) none 0 0 ret F) (n : Nat) {pc ls st h k z} (q : sJ1_init ret F n pc ls st h k z) : F pc ls st h k z := hF.1 n pc ls st h k z q
theorem metJ1_init (l : Launch) (G : amG) : amMet l G yJ1_init (ws_ yJ1_init cJ1_init 5 none) 2 0 0 tJ1_init := by
  refine amMet_of (cut := kJ1_init) (by decide +kernel) (evJ1_init l G) ?_
  intro as h K hT
  match as, hT with
  | [.ref a, .null, .null, .int x, .int y], ⟨h1, a24, e1, e2, hK⟩ =>
  refine ⟨Nat.le_of_ble_eq_true rfl, fun F hF => ?_⟩
  show F 0 [.ref a, .null, .null, .int x, .int y] [] h 0 0
  obtain ⟨a, rfl⟩ : ∃ i : Nat, i = a := ⟨_, rfl⟩
  refine goJ1_init hF 60 ?_
  simp (disch := omega) only [wJ1_init_0, uJ1_init_0, wJ1_init_1, wJ1_init_2, wJ1_init_3, wJ1_init_4, wJ1_init_6, wJ1_init_9, uJ1_init_9, amSI_1, amSI_2, amSI_3, amSI_s, amU_at, amIsR_ref, amIsR_null, amIsR_rf, amRf_some, amRf_none, amClr_int, amClr_ref, amClr_null, amClr_long, amClr_ra, amClr_rf, amFit_int, amFit_oref, amFit_aref, amFit_onull, amFit_anull, amOptSome, amOptNone, List.cons_append, List.nil_append, true_and, and_true, true_implies, not_true_eq_false, not_false_eq_true, false_implies, and_self, Nat.add_zero, Nat.zero_add, ne_eq, Prod.mk.injEq, amC01_0, amC01_1, amC01_nb, amNb0, amNb1, amTcpI_d, Nat.reduceLeDiff, Nat.reduceAdd, Nat.reduceSub, Nat.reduceEqDiff, Nat.le_refl, amN0le]
  rw [tJ0_init_2_d]
  refine ⟨h1, a24, e1, e2, fun h' f => ?_⟩
  have key := hK h' f
  refine goJ1_init hF 60 ?_
  simp (disch := omega) only [wJ1_init_0, uJ1_init_0, wJ1_init_1, wJ1_init_2, wJ1_init_3, wJ1_init_4, wJ1_init_6, wJ1_init_9, uJ1_init_9, amSI_1, amSI_2, amSI_3, amSI_s, amU_at, amIsR_ref, amIsR_null, amIsR_rf, amRf_some, amRf_none, amClr_int, amClr_ref, amClr_null, amClr_long, amClr_ra, amClr_rf, amFit_int, amFit_oref, amFit_aref, amFit_onull, amFit_anull, amOptSome, amOptNone, List.cons_append, List.nil_append, true_and, and_true, true_implies, not_true_eq_false, not_false_eq_true, false_implies, and_self, Nat.add_zero, Nat.zero_add, ne_eq, Prod.mk.injEq, amC01_0, amC01_1, amC01_nb, amNb0, amNb1, amTcpI_d, Nat.reduceLeDiff, Nat.reduceAdd, Nat.reduceSub, Nat.reduceEqDiff, Nat.le_refl, amN0le]
  exact amRet.of (by decide) (by decide) key
theorem tJ1_init_d {a : Nat} {x y : Int32} {h : amH} {K : Option Value → amH → Prop} : tJ1_init [.ref a, .null, .null, .int x, .int y] h K = (h.1 a = (0, 3) ∧ (24 : Nat) ≤ a ∧ x = nI 0 ∧ y = nI 0 ∧ ∀ h', slFr h h' a → K none h') := rfl
def tX3_init : amT := fun as h K => match as with
  | [.ref a] => h.1 a = (0, 3) ∧ (24 : Nat) ≤ a ∧ ∀ h', slFr h h' a → K none h'
  | _ => False
/-! ReadingStages$Fault.<init>()V -/
def kX3_init : Nat → Bool := fun pc => pc == 8
def rX3_init : List (Nat × amS) := [(5, 5, 0, 0, (amIsRef tJ1_init))]
def eX3_init (ret : Option Value → amH → Nat → Nat → Prop) (F : amX) : Nat → amX := amWp cX3_init kX3_init (amLk rX3_init) none 0 0 ret F
def sX3_init (ret : Option Value → amH → Nat → Nat → Prop) (F : amX) : Nat → amX := amWs cX3_init kX3_init (amLk rX3_init) none 0 0 ret F
theorem wX3_init_0 {ret F n h} {v0 st} : eX3_init ret F (n + 1) 0 [v0] (st) h 0 0 = (amIsR v0 ∧ eX3_init ret F n 1 [v0] (v0 :: st) h 0 0) := (amWp_dec rfl dX3_init_0 rfl).trans rfl
theorem uX3_init_0 {ret F n h} {v0 st} : sX3_init ret F n 0 [v0] (st) h 0 0 = (amIsR v0 ∧ eX3_init ret F n 1 [v0] (v0 :: st) h 0 0) := (amWs_dec dX3_init_0 rfl).trans rfl
theorem wX3_init_1 {ret F n h} {v0 st} : eX3_init ret F (n + 1) 1 [v0] (st) h 0 0 = (eX3_init ret F n 2 [v0] (.null :: st) h 0 0) := (amWp_dec rfl dX3_init_1 rfl).trans rfl
theorem wX3_init_2 {ret F n h} {v0 st} : eX3_init ret F (n + 1) 2 [v0] (st) h 0 0 = (eX3_init ret F n 3 [v0] (.null :: st) h 0 0) := (amWp_dec rfl dX3_init_2 rfl).trans rfl
theorem wX3_init_3 {ret F n h} {v0 st} : eX3_init ret F (n + 1) 3 [v0] (st) h 0 0 = (eX3_init ret F n 4 [v0] (.int (nI 0) :: st) h 0 0) := (amWp_dec rfl dX3_init_3 rfl).trans rfl
theorem wX3_init_4 {ret F n h} {v0 st} : eX3_init ret F (n + 1) 4 [v0] (st) h 0 0 = (eX3_init ret F n 5 [v0] (.int (nI 0) :: st) h 0 0) := (amWp_dec rfl dX3_init_4 rfl).trans rfl
theorem wX3_init_5 {ret F n h} {v0 x4 x3 w2 w1 x0} : eX3_init ret F (n + 1) 5 [v0] (.int x4 :: .int x3 :: w2 :: w1 :: .ref x0 :: []) h 0 0 = (tJ1_init [.ref x0, w1, w2, .int x3, .int x4] h (fun v h => eX3_init ret F n 8 [v0] (v.toList ++ ([])) h 0 0)) := (amWp_dec rfl dX3_init_5 rfl).trans (amS4 (Nat.le_of_ble_eq_true rfl) (Nat.le_of_ble_eq_true rfl) (Nat.le_of_ble_eq_true rfl) (Nat.le_of_ble_eq_true rfl))
theorem wX3_init_8 {ret F n ls st h k z} : eX3_init ret F (n + 1) 8 ls st h k z = F 8 ls st h k z := amWp_cut rfl
theorem uX3_init_8 {ret F n h} {v0} : sX3_init ret F n 8 [v0] ([]) h 0 0 = (ret none h 0 0) := (amWs_dec dX3_init_8 rfl).trans (amTrue rfl)
theorem evX3_init (l : Launch) (G : amG) : ∀ pc S i sz, amLk rX3_init pc = some S → decode cX3_init pc = .ok (i, sz) → amSiteP pc G l yX3_init.cls yX3_init.name yX3_init.desc (amRm 3 0 0) i sz S.1 S.2.1 S.2.2.1 S.2.2.2 := amLk_ok (by
  refine List.forall_mem_cons.mpr ⟨⟨_, _, dX3_init_5, amSite.P (amSiteI (metJ1_init l G) rfl (by decide) (by decide) q244 q90 q242 q243 ⟨rfl, by decide +kernel, by decide +kernel, by decide +kernel⟩)⟩, ?_⟩
  exact fun _ h => absurd h List.not_mem_nil)
theorem goX3_init {ret F} (hF : amCld cX3_init kX3_init (amLk rX3_init) none 0 0 ret F) (n : Nat) {pc ls st h k z} (q : sX3_init ret F n pc ls st h k z) : F pc ls st h k z := hF.1 n pc ls st h k z q
theorem metX3_init (l : Launch) (G : amG) : amMet l G yX3_init (ws_ yX3_init cX3_init 1 none) 3 0 0 tX3_init := by
  refine amMet_of (cut := kX3_init) (by decide +kernel) (evX3_init l G) ?_
  intro as h K hT
  match as, hT with
  | [.ref a], ⟨h1, a24, hK⟩ =>
  refine ⟨Nat.le_of_ble_eq_true rfl, fun F hF => ?_⟩
  show F 0 [.ref a] [] h 0 0
  obtain ⟨a, rfl⟩ : ∃ i : Nat, i = a := ⟨_, rfl⟩
  refine goX3_init hF 60 ?_
  simp (disch := omega) only [wX3_init_0, uX3_init_0, wX3_init_1, wX3_init_2, wX3_init_3, wX3_init_4, wX3_init_5, wX3_init_8, uX3_init_8, amSI_1, amSI_2, amSI_3, amSI_s, amU_at, amIsR_ref, amIsR_null, amIsR_rf, amRf_some, amRf_none, amClr_int, amClr_ref, amClr_null, amClr_long, amClr_ra, amClr_rf, amFit_int, amFit_oref, amFit_aref, amFit_onull, amFit_anull, amOptSome, amOptNone, List.cons_append, List.nil_append, true_and, and_true, true_implies, not_true_eq_false, not_false_eq_true, false_implies, and_self, Nat.add_zero, Nat.zero_add, ne_eq, Prod.mk.injEq, amC01_0, amC01_1, amC01_nb, amNb0, amNb1, amTcpI_d, Nat.reduceLeDiff, Nat.reduceAdd, Nat.reduceSub, Nat.reduceEqDiff, Nat.le_refl, amN0le]
  rw [tJ1_init_d]
  refine ⟨h1, a24, rfl, rfl, fun h' f => ?_⟩
  have key := hK h' f
  refine goX3_init hF 60 ?_
  simp (disch := omega) only [wX3_init_0, uX3_init_0, wX3_init_1, wX3_init_2, wX3_init_3, wX3_init_4, wX3_init_5, wX3_init_8, uX3_init_8, amSI_1, amSI_2, amSI_3, amSI_s, amU_at, amIsR_ref, amIsR_null, amIsR_rf, amRf_some, amRf_none, amClr_int, amClr_ref, amClr_null, amClr_long, amClr_ra, amClr_rf, amFit_int, amFit_oref, amFit_aref, amFit_onull, amFit_anull, amOptSome, amOptNone, List.cons_append, List.nil_append, true_and, and_true, true_implies, not_true_eq_false, not_false_eq_true, false_implies, and_self, Nat.add_zero, Nat.zero_add, ne_eq, Prod.mk.injEq, amC01_0, amC01_1, amC01_nb, amNb0, amNb1, amTcpI_d, Nat.reduceLeDiff, Nat.reduceAdd, Nat.reduceSub, Nat.reduceEqDiff, Nat.le_refl, amN0le]
  exact amRet.of (by decide) (by decide) key
theorem tX3_init_d {a : Nat} {h : amH} {K : Option Value → amH → Prop} : tX3_init [.ref a] h K = (h.1 a = (0, 3) ∧ (24 : Nat) ≤ a ∧ ∀ h', slFr h h' a → K none h') := rfl
