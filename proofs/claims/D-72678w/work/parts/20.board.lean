/-! the small statics; Board and Shelf -/
set_option maxRecDepth 100000
theorem amTcpI_d {s d : Nat} {sp dp n : Int32} {h : amH} {K : Option Value → amH → Prop} : amTcpI [.ref s, .int sp, .ref d, .int dp, .int n] h K = (1 ≤ (h.1 s).1 ∧ (h.1 s).1 ≤ 4 ∧ (h.1 d).1 = (h.1 s).1 ∧ ¬ sp < 0 ∧ ¬ dp < 0 ∧ ¬ n < 0 ∧ sp.toNatClampNeg + n.toNatClampNeg ≤ (h.1 s).2 ∧ dp.toNatClampNeg + n.toNatClampNeg ≤ (h.1 d).2 ∧ amN0 ≤ d ∧ K none (amSI h (va_up h.2.1 d (va_cpy (h.2.1 s) (h.2.1 d) sp.toNatClampNeg dp.toNatClampNeg n.toNatClampNeg)))) := rfl
def tX0_isIn : amT := fun as h K => match as with
  | [.long v, .long a, .long b] => K (some (.int (amC01 (a ≤ v ∧ v ≤ b)))) h
  | _ => False
/-! ReadingStages.isIn(JJJ)Z -/
def kX0_isIn : Nat → Bool := fun pc => false
def rX0_isIn : List (Nat × amS) := []
def eX0_isIn (ret : Option Value → amH → Nat → Nat → Prop) (F : amX) : Nat → amX := amWp cX0_isIn kX0_isIn (amLk rX0_isIn) (some .boolean) 0 0 ret F
def sX0_isIn (ret : Option Value → amH → Nat → Nat → Prop) (F : amX) : Nat → amX := amWs cX0_isIn kX0_isIn (amLk rX0_isIn) (some .boolean) 0 0 ret F
theorem wX0_isIn_0 {ret F n h} {v1 v2 v3 v4 v5 st y} : eX0_isIn ret F (n + 1) 0 [.long y, v1, v2, v3, v4, v5] (st) h 0 0 = (eX0_isIn ret F n 1 [.long y, v1, v2, v3, v4, v5] (.long y :: st) h 0 0) := (amWp_dec rfl dX0_isIn_0 rfl).trans rfl
theorem uX0_isIn_0 {ret F n h} {v1 v2 v3 v4 v5 st y} : sX0_isIn ret F n 0 [.long y, v1, v2, v3, v4, v5] (st) h 0 0 = (eX0_isIn ret F n 1 [.long y, v1, v2, v3, v4, v5] (.long y :: st) h 0 0) := (amWs_dec dX0_isIn_0 rfl).trans rfl
theorem wX0_isIn_1 {ret F n h} {v0 v1 v3 v4 v5 st y} : eX0_isIn ret F (n + 1) 1 [v0, v1, .long y, v3, v4, v5] (st) h 0 0 = (eX0_isIn ret F n 2 [v0, v1, .long y, v3, v4, v5] (.long y :: st) h 0 0) := (amWp_dec rfl dX0_isIn_1 rfl).trans rfl
theorem wX0_isIn_2 {ret F n h} {v0 v1 v2 v3 v4 v5 st y x} : eX0_isIn ret F (n + 1) 2 [v0, v1, v2, v3, v4, v5] (.long y :: .long x :: st) h 0 0 = (eX0_isIn ret F n 3 [v0, v1, v2, v3, v4, v5] (.int (lg_cmp x y) :: st) h 0 0) := (amWp_dec rfl dX0_isIn_2 rfl).trans rfl
theorem wX0_isIn_3 {ret F n h} {v0 v1 v2 v3 v4 v5 st x} : eX0_isIn ret F (n + 1) 3 [v0, v1, v2, v3, v4, v5] (.int x :: st) h 0 0 = ((x < 0 → eX0_isIn ret F n 17 [v0, v1, v2, v3, v4, v5] (st) h 0 0) ∧ (¬ x < 0 → eX0_isIn ret F n 6 [v0, v1, v2, v3, v4, v5] (st) h 0 0)) := (amWp_dec rfl dX0_isIn_3 rfl).trans rfl
theorem wX0_isIn_6 {ret F n h} {v1 v2 v3 v4 v5 st y} : eX0_isIn ret F (n + 1) 6 [.long y, v1, v2, v3, v4, v5] (st) h 0 0 = (eX0_isIn ret F n 7 [.long y, v1, v2, v3, v4, v5] (.long y :: st) h 0 0) := (amWp_dec rfl dX0_isIn_6 rfl).trans rfl
theorem wX0_isIn_7 {ret F n h} {v0 v1 v2 v3 v5 st y} : eX0_isIn ret F (n + 1) 7 [v0, v1, v2, v3, .long y, v5] (st) h 0 0 = (eX0_isIn ret F n 9 [v0, v1, v2, v3, .long y, v5] (.long y :: st) h 0 0) := (amWp_dec rfl dX0_isIn_7 rfl).trans rfl
theorem wX0_isIn_9 {ret F n h} {v0 v1 v2 v3 v4 v5 st y x} : eX0_isIn ret F (n + 1) 9 [v0, v1, v2, v3, v4, v5] (.long y :: .long x :: st) h 0 0 = (eX0_isIn ret F n 10 [v0, v1, v2, v3, v4, v5] (.int (lg_cmp x y) :: st) h 0 0) := (amWp_dec rfl dX0_isIn_9 rfl).trans rfl
theorem wX0_isIn_10 {ret F n h} {v0 v1 v2 v3 v4 v5 st x} : eX0_isIn ret F (n + 1) 10 [v0, v1, v2, v3, v4, v5] (.int x :: st) h 0 0 = ((0 < x → eX0_isIn ret F n 17 [v0, v1, v2, v3, v4, v5] (st) h 0 0) ∧ (¬ 0 < x → eX0_isIn ret F n 13 [v0, v1, v2, v3, v4, v5] (st) h 0 0)) := (amWp_dec rfl dX0_isIn_10 rfl).trans rfl
theorem wX0_isIn_13 {ret F n h} {v0 v1 v2 v3 v4 v5 st} : eX0_isIn ret F (n + 1) 13 [v0, v1, v2, v3, v4, v5] (st) h 0 0 = (eX0_isIn ret F n 14 [v0, v1, v2, v3, v4, v5] (.int (nI 1) :: st) h 0 0) := (amWp_dec rfl dX0_isIn_13 rfl).trans rfl
theorem wX0_isIn_14 {ret F n h} {v0 v1 v2 v3 v4 v5 st} : eX0_isIn ret F (n + 1) 14 [v0, v1, v2, v3, v4, v5] (st) h 0 0 = (eX0_isIn ret F n 18 [v0, v1, v2, v3, v4, v5] (st) h 0 0) := (amWp_dec rfl dX0_isIn_14 rfl).trans rfl
theorem wX0_isIn_17 {ret F n h} {v0 v1 v2 v3 v4 v5 st} : eX0_isIn ret F (n + 1) 17 [v0, v1, v2, v3, v4, v5] (st) h 0 0 = (eX0_isIn ret F n 18 [v0, v1, v2, v3, v4, v5] (.int (nI 0) :: st) h 0 0) := (amWp_dec rfl dX0_isIn_17 rfl).trans rfl
theorem wX0_isIn_18 {ret F n h} {v0 v1 v2 v3 v4 v5 x} : eX0_isIn ret F (n + 1) 18 [v0, v1, v2, v3, v4, v5] ([.int x]) h 0 0 = (narrow .boolean (.int x) = .int x ∧ ret (some (.int x)) h 0 0) := (amWp_dec rfl dX0_isIn_18 rfl).trans (amRetTy)
theorem evX0_isIn (l : Launch) (G : amG) : ∀ pc S i sz, amLk rX0_isIn pc = some S → decode cX0_isIn pc = .ok (i, sz) → amSiteP pc G l yX0_isIn.cls yX0_isIn.name yX0_isIn.desc (amRm 1 0 0) i sz S.1 S.2.1 S.2.2.1 S.2.2.2 := amLk_ok (by
  exact fun _ h => absurd h List.not_mem_nil)
theorem goX0_isIn {ret F} (hF : amCld cX0_isIn kX0_isIn (amLk rX0_isIn) (some .boolean) 0 0 ret F) (n : Nat) {pc ls st h k z} (q : sX0_isIn ret F n pc ls st h k z) : F pc ls st h k z := hF.1 n pc ls st h k z q
theorem metX0_isIn (l : Launch) (G : amG) : amMet l G yX0_isIn (ws_ yX0_isIn cX0_isIn 6 (some .boolean)) 1 0 0 tX0_isIn := by
  refine amMet_of (cut := kX0_isIn) (by decide +kernel) (evX0_isIn l G) ?_
  intro as h K hT
  match as, hT with
  | [.long v, .long a, .long b], hK =>
  refine ⟨Nat.le_of_ble_eq_true rfl, fun F hF => ?_⟩
  show F 0 [.long v, .retAddr 0, .long a, .retAddr 0, .long b, .retAddr 0] [] h 0 0
  have hK : K (some (.int (amC01 (a ≤ v ∧ v ≤ b)))) h := hK
  refine goX0_isIn hF 20 ?_
  simp (disch := omega) only [wX0_isIn_0, uX0_isIn_0, wX0_isIn_1, wX0_isIn_2, wX0_isIn_3, wX0_isIn_6, wX0_isIn_7, wX0_isIn_9, wX0_isIn_10, wX0_isIn_13, wX0_isIn_14, wX0_isIn_17, wX0_isIn_18, amSI_1, amSI_2, amSI_3, amSI_s, amU_at, amIsR_ref, amIsR_null, amIsR_rf, amRf_some, amRf_none, amClr_int, amClr_ref, amClr_null, amClr_long, amClr_ra, amClr_rf, amFit_int, amFit_oref, amFit_aref, amFit_onull, amFit_anull, amOptSome, amOptNone, List.cons_append, List.nil_append, true_and, and_true, true_implies, not_true_eq_false, not_false_eq_true, false_implies, and_self, Nat.add_zero, Nat.zero_add, ne_eq, Prod.mk.injEq, amC01_0, amC01_1, amC01_nb, amNb0, amNb1, amTcpI_d, Nat.reduceLeDiff, Nat.reduceAdd, Nat.reduceSub, Nat.reduceEqDiff, Nat.le_refl, amN0le, amCmpLt, amCmpGt]
  refine ⟨fun q => ?_, fun q => ⟨fun r => ?_, fun r => ?_⟩⟩
  · rw [amC01_f (fun z => Int64.not_lt.mpr z.1 q)] at hK
    exact amRet.of (by decide) (by decide) hK
  · rw [amC01_f (fun z => Int64.not_lt.mpr z.2 r)] at hK
    exact amRet.of (by decide) (by decide) hK
  · rw [amC01_t ⟨Int64.not_lt.mp q, Int64.not_lt.mp r⟩] at hK
    exact amRet.of (by decide) (by decide) hK
theorem tX0_isIn_d {v a b : Int64} {h : amH} {K : Option Value → amH → Prop} : tX0_isIn [.long v, .long a, .long b] h K = K (some (.int (amC01 (a ≤ v ∧ v ≤ b)))) h := rfl
def tX0_has : amT := fun as h K => match as with
  | [.int x, .int y] => K (some (.int (amC01 ((x >>> (y &&& 31)) &&& nI 1 = nI 1)))) h
  | _ => False
/-! ReadingStages.has(II)Z -/
def kX0_has : Nat → Bool := fun pc => false
def rX0_has : List (Nat × amS) := []
def eX0_has (ret : Option Value → amH → Nat → Nat → Prop) (F : amX) : Nat → amX := amWp cX0_has kX0_has (amLk rX0_has) (some .boolean) 0 0 ret F
def sX0_has (ret : Option Value → amH → Nat → Nat → Prop) (F : amX) : Nat → amX := amWs cX0_has kX0_has (amLk rX0_has) (some .boolean) 0 0 ret F
theorem wX0_has_0 {ret F n h} {v1 st x} : eX0_has ret F (n + 1) 0 [.int x, v1] (st) h 0 0 = (eX0_has ret F n 1 [.int x, v1] (.int x :: st) h 0 0) := (amWp_dec rfl dX0_has_0 rfl).trans rfl
theorem uX0_has_0 {ret F n h} {v1 st x} : sX0_has ret F n 0 [.int x, v1] (st) h 0 0 = (eX0_has ret F n 1 [.int x, v1] (.int x :: st) h 0 0) := (amWs_dec dX0_has_0 rfl).trans rfl
theorem wX0_has_1 {ret F n h} {v0 st x} : eX0_has ret F (n + 1) 1 [v0, .int x] (st) h 0 0 = (eX0_has ret F n 2 [v0, .int x] (.int x :: st) h 0 0) := (amWp_dec rfl dX0_has_1 rfl).trans rfl
theorem wX0_has_2 {ret F n h} {v0 v1 st y x} : eX0_has ret F (n + 1) 2 [v0, v1] (.int y :: .int x :: st) h 0 0 = (eX0_has ret F n 3 [v0, v1] (.int (x >>> (y &&& 31)) :: st) h 0 0) := (amWp_dec rfl dX0_has_2 rfl).trans rfl
theorem wX0_has_3 {ret F n h} {v0 v1 st} : eX0_has ret F (n + 1) 3 [v0, v1] (st) h 0 0 = (eX0_has ret F n 4 [v0, v1] (.int (nI 1) :: st) h 0 0) := (amWp_dec rfl dX0_has_3 rfl).trans rfl
theorem wX0_has_4 {ret F n h} {v0 v1 st y x} : eX0_has ret F (n + 1) 4 [v0, v1] (.int y :: .int x :: st) h 0 0 = (eX0_has ret F n 5 [v0, v1] (.int (x &&& y) :: st) h 0 0) := (amWp_dec rfl dX0_has_4 rfl).trans rfl
theorem wX0_has_5 {ret F n h} {v0 v1 st} : eX0_has ret F (n + 1) 5 [v0, v1] (st) h 0 0 = (eX0_has ret F n 6 [v0, v1] (.int (nI 1) :: st) h 0 0) := (amWp_dec rfl dX0_has_5 rfl).trans rfl
theorem wX0_has_6 {ret F n h} {v0 v1 st y x} : eX0_has ret F (n + 1) 6 [v0, v1] (.int y :: .int x :: st) h 0 0 = ((¬ x = y → eX0_has ret F n 13 [v0, v1] (st) h 0 0) ∧ (x = y → eX0_has ret F n 9 [v0, v1] (st) h 0 0)) := (amWp_dec rfl dX0_has_6 rfl).trans rfl
theorem wX0_has_9 {ret F n h} {v0 v1 st} : eX0_has ret F (n + 1) 9 [v0, v1] (st) h 0 0 = (eX0_has ret F n 10 [v0, v1] (.int (nI 1) :: st) h 0 0) := (amWp_dec rfl dX0_has_9 rfl).trans rfl
theorem wX0_has_10 {ret F n h} {v0 v1 st} : eX0_has ret F (n + 1) 10 [v0, v1] (st) h 0 0 = (eX0_has ret F n 14 [v0, v1] (st) h 0 0) := (amWp_dec rfl dX0_has_10 rfl).trans rfl
theorem wX0_has_13 {ret F n h} {v0 v1 st} : eX0_has ret F (n + 1) 13 [v0, v1] (st) h 0 0 = (eX0_has ret F n 14 [v0, v1] (.int (nI 0) :: st) h 0 0) := (amWp_dec rfl dX0_has_13 rfl).trans rfl
theorem wX0_has_14 {ret F n h} {v0 v1 x} : eX0_has ret F (n + 1) 14 [v0, v1] ([.int x]) h 0 0 = (narrow .boolean (.int x) = .int x ∧ ret (some (.int x)) h 0 0) := (amWp_dec rfl dX0_has_14 rfl).trans (amRetTy)
theorem evX0_has (l : Launch) (G : amG) : ∀ pc S i sz, amLk rX0_has pc = some S → decode cX0_has pc = .ok (i, sz) → amSiteP pc G l yX0_has.cls yX0_has.name yX0_has.desc (amRm 1 0 0) i sz S.1 S.2.1 S.2.2.1 S.2.2.2 := amLk_ok (by
  exact fun _ h => absurd h List.not_mem_nil)
theorem goX0_has {ret F} (hF : amCld cX0_has kX0_has (amLk rX0_has) (some .boolean) 0 0 ret F) (n : Nat) {pc ls st h k z} (q : sX0_has ret F n pc ls st h k z) : F pc ls st h k z := hF.1 n pc ls st h k z q
theorem metX0_has (l : Launch) (G : amG) : amMet l G yX0_has (ws_ yX0_has cX0_has 2 (some .boolean)) 1 0 0 tX0_has := by
  refine amMet_of (cut := kX0_has) (by decide +kernel) (evX0_has l G) ?_
  intro as h K hT
  match as, hT with
  | [.int x, .int y], hK =>
  refine ⟨Nat.le_of_ble_eq_true rfl, fun F hF => ?_⟩
  show F 0 [.int x, .int y] [] h 0 0
  have hK : K (some (.int (amC01 ((x >>> (y &&& 31)) &&& nI 1 = nI 1)))) h := hK
  refine goX0_has hF 20 ?_
  simp (disch := omega) only [wX0_has_0, uX0_has_0, wX0_has_1, wX0_has_2, wX0_has_3, wX0_has_4, wX0_has_5, wX0_has_6, wX0_has_9, wX0_has_10, wX0_has_13, wX0_has_14, amSI_1, amSI_2, amSI_3, amSI_s, amU_at, amIsR_ref, amIsR_null, amIsR_rf, amRf_some, amRf_none, amClr_int, amClr_ref, amClr_null, amClr_long, amClr_ra, amClr_rf, amFit_int, amFit_oref, amFit_aref, amFit_onull, amFit_anull, amOptSome, amOptNone, List.cons_append, List.nil_append, true_and, and_true, true_implies, not_true_eq_false, not_false_eq_true, false_implies, and_self, Nat.add_zero, Nat.zero_add, ne_eq, Prod.mk.injEq, amC01_0, amC01_1, amC01_nb, amNb0, amNb1, amTcpI_d, Nat.reduceLeDiff, Nat.reduceAdd, Nat.reduceSub, Nat.reduceEqDiff, Nat.le_refl, amN0le]
  refine ⟨fun q => ?_, fun q => ?_⟩
  · rw [amC01_f q] at hK
    exact amRet.of (by decide) (by decide) hK
  · rw [amC01_t q] at hK
    exact amRet.of (by decide) (by decide) hK
theorem tX0_has_d {x y : Int32} {h : amH} {K : Option Value → amH → Prop} : tX0_has [.int x, .int y] h K = K (some (.int (amC01 ((x >>> (y &&& 31)) &&& nI 1 = nI 1)))) h := rfl
def tX0_isSet : amT := fun as h K => match as with
  | [.int x, .int y] => K (some (.int (amC01 (y.toInt64 ≤ x.toInt64 ∧ x.toInt64 ≤ lN 1048575)))) h
  | _ => False
/-! ReadingStages.isSet(II)Z -/
def kX0_isSet : Nat → Bool := fun pc => false
def rX0_isSet : List (Nat × amS) := [(4, 0, 0, 0, amTcon (.long (1048575))), (7, 3, 0, 0, tX0_isIn)]
def eX0_isSet (ret : Option Value → amH → Nat → Nat → Prop) (F : amX) : Nat → amX := amWp cX0_isSet kX0_isSet (amLk rX0_isSet) (some .boolean) 0 0 ret F
def sX0_isSet (ret : Option Value → amH → Nat → Nat → Prop) (F : amX) : Nat → amX := amWs cX0_isSet kX0_isSet (amLk rX0_isSet) (some .boolean) 0 0 ret F
theorem wX0_isSet_0 {ret F n h} {v1 st x} : eX0_isSet ret F (n + 1) 0 [.int x, v1] (st) h 0 0 = (eX0_isSet ret F n 1 [.int x, v1] (.int x :: st) h 0 0) := (amWp_dec rfl dX0_isSet_0 rfl).trans rfl
theorem uX0_isSet_0 {ret F n h} {v1 st x} : sX0_isSet ret F n 0 [.int x, v1] (st) h 0 0 = (eX0_isSet ret F n 1 [.int x, v1] (.int x :: st) h 0 0) := (amWs_dec dX0_isSet_0 rfl).trans rfl
theorem wX0_isSet_1 {ret F n h} {v0 v1 st x} : eX0_isSet ret F (n + 1) 1 [v0, v1] (.int x :: st) h 0 0 = (eX0_isSet ret F n 2 [v0, v1] (.long x.toInt64 :: st) h 0 0) := (amWp_dec rfl dX0_isSet_1 rfl).trans rfl
theorem wX0_isSet_2 {ret F n h} {v0 st x} : eX0_isSet ret F (n + 1) 2 [v0, .int x] (st) h 0 0 = (eX0_isSet ret F n 3 [v0, .int x] (.int x :: st) h 0 0) := (amWp_dec rfl dX0_isSet_2 rfl).trans rfl
theorem wX0_isSet_3 {ret F n h} {v0 v1 st x} : eX0_isSet ret F (n + 1) 3 [v0, v1] (.int x :: st) h 0 0 = (eX0_isSet ret F n 4 [v0, v1] (.long x.toInt64 :: st) h 0 0) := (amWp_dec rfl dX0_isSet_3 rfl).trans rfl
theorem wX0_isSet_4 {ret F n h} {v0 v1 r0 r1} : eX0_isSet ret F (n + 1) 4 [v0, v1] (r0 :: r1 :: []) h 0 0 = (eX0_isSet ret F n 7 [v0, v1] (.long (lN 1048575) :: r0 :: r1 :: []) h 0 0) := (amWp_dec rfl dX0_isSet_4 rfl).trans (amS4 (Nat.le_of_ble_eq_true rfl) (Nat.le_of_ble_eq_true rfl) (Nat.le_of_ble_eq_true rfl) (Nat.le_of_ble_eq_true rfl))
theorem wX0_isSet_7 {ret F n h} {v0 v1 x2 x1 x0} : eX0_isSet ret F (n + 1) 7 [v0, v1] (.long x2 :: .long x1 :: .long x0 :: []) h 0 0 = (tX0_isIn [.long x0, .long x1, .long x2] h (fun v h => eX0_isSet ret F n 10 [v0, v1] (v.toList ++ ([])) h 0 0)) := (amWp_dec rfl dX0_isSet_7 rfl).trans (amS4 (Nat.le_of_ble_eq_true rfl) (Nat.le_of_ble_eq_true rfl) (Nat.le_of_ble_eq_true rfl) (Nat.le_of_ble_eq_true rfl))
theorem wX0_isSet_10 {ret F n h} {v0 v1 x} : eX0_isSet ret F (n + 1) 10 [v0, v1] ([.int x]) h 0 0 = (narrow .boolean (.int x) = .int x ∧ ret (some (.int x)) h 0 0) := (amWp_dec rfl dX0_isSet_10 rfl).trans (amRetTy)
theorem evX0_isSet (l : Launch) (G : amG) : ∀ pc S i sz, amLk rX0_isSet pc = some S → decode cX0_isSet pc = .ok (i, sz) → amSiteP pc G l yX0_isSet.cls yX0_isSet.name yX0_isSet.desc (amRm 2 0 0) i sz S.1 S.2.1 S.2.2.1 S.2.2.2 := amLk_ok (by
  refine List.forall_mem_cons.mpr ⟨⟨_, _, dX0_isSet_4, amSite.P (amSiteLdc2 q880)⟩, ?_⟩
  refine List.forall_mem_cons.mpr ⟨⟨_, _, dX0_isSet_7, amSite.P (amSiteS (metX0_isIn l G) rfl (by decide) (by decide) (lw_S q382 q383 q86 q384) ⟨by decide +kernel, by decide +kernel, by decide +kernel⟩)⟩, ?_⟩
  exact fun _ h => absurd h List.not_mem_nil)
theorem goX0_isSet {ret F} (hF : amCld cX0_isSet kX0_isSet (amLk rX0_isSet) (some .boolean) 0 0 ret F) (n : Nat) {pc ls st h k z} (q : sX0_isSet ret F n pc ls st h k z) : F pc ls st h k z := hF.1 n pc ls st h k z q
theorem metX0_isSet (l : Launch) (G : amG) : amMet l G yX0_isSet (ws_ yX0_isSet cX0_isSet 2 (some .boolean)) 2 0 0 tX0_isSet := by
  refine amMet_of (cut := kX0_isSet) (by decide +kernel) (evX0_isSet l G) ?_
  intro as h K hT
  match as, hT with
  | [.int x, .int y], hK =>
  refine ⟨Nat.le_of_ble_eq_true rfl, fun F hF => ?_⟩
  show F 0 [.int x, .int y] [] h 0 0
  refine goX0_isSet hF 20 ?_
  simp (disch := omega) only [wX0_isSet_0, uX0_isSet_0, wX0_isSet_1, wX0_isSet_2, wX0_isSet_3, wX0_isSet_4, wX0_isSet_7, wX0_isSet_10, amSI_1, amSI_2, amSI_3, amSI_s, amU_at, amIsR_ref, amIsR_null, amIsR_rf, amRf_some, amRf_none, amClr_int, amClr_ref, amClr_null, amClr_long, amClr_ra, amClr_rf, amFit_int, amFit_oref, amFit_aref, amFit_onull, amFit_anull, amOptSome, amOptNone, List.cons_append, List.nil_append, true_and, and_true, true_implies, not_true_eq_false, not_false_eq_true, false_implies, and_self, Nat.add_zero, Nat.zero_add, ne_eq, Prod.mk.injEq, amC01_0, amC01_1, amC01_nb, amNb0, amNb1, amTcpI_d, Nat.reduceLeDiff, Nat.reduceAdd, Nat.reduceSub, Nat.reduceEqDiff, Nat.le_refl, amN0le, tX0_isIn_d]
  exact amRet.of (by decide) (by decide) hK
theorem tX0_isSet_d {x y : Int32} {h : amH} {K : Option Value → amH → Prop} : tX0_isSet [.int x, .int y] h K = K (some (.int (amC01 (y.toInt64 ≤ x.toInt64 ∧ x.toInt64 ≤ lN 1048575)))) h := rfl
/-- a board: its cell b, its books in the cell after -/
def bdAt (h : amH) (b : Nat) : Prop := h.1 b = (0, 2) ∧ h.1 (b + 1) = (2, 7) ∧ h.2.2.2.1 b 0 = some (b + 1)
/-- what stands on it -/
def bdIs (m : Nat → Nat → Int32) (b : Nat) (l : List Nat) : Prop := l.length ≤ 7 ∧ (∀ x ∈ l, x < 7) ∧ m b 1 = nI l.length ∧ ∀ i, i < l.length → m (b + 1) i = nI (l.getD i 0)
theorem bdIs.kept {m m' : Nat → Nat → Int32} {b : Nat} {l : List Nat} (h : bdIs m b l) (e1 : m' b = m b) (e2 : m' (b + 1) = m (b + 1)) : bdIs m' b l := ⟨h.1, h.2.1, by rw [e1]; exact h.2.2.1, fun i hi => by rw [e2]; exact h.2.2.2 i hi⟩
/-- nothing but a board has changed -/
def bdFr (m m' : Nat → Nat → Int32) (b : Nat) : Prop := ∀ i : Nat, (i < b ∨ b + 2 ≤ i) → m' i = m i
def tX2_size : amT := fun as h K => match as with
  | [.ref b] => h.1 b = (0, 2) ∧ K (some (.int (h.2.1 b 1))) h
  | _ => False
/-! ReadingStages$Board.size()I -/
def kX2_size : Nat → Bool := fun pc => false
def rX2_size : List (Nat × amS) := [(1, 1, 0, 0, amTget 2 1)]
def eX2_size (ret : Option Value → amH → Nat → Nat → Prop) (F : amX) : Nat → amX := amWp cX2_size kX2_size (amLk rX2_size) (some .int) 0 0 ret F
def sX2_size (ret : Option Value → amH → Nat → Nat → Prop) (F : amX) : Nat → amX := amWs cX2_size kX2_size (amLk rX2_size) (some .int) 0 0 ret F
theorem wX2_size_0 {ret F n h} {v0 st} : eX2_size ret F (n + 1) 0 [v0] (st) h 0 0 = (amIsR v0 ∧ eX2_size ret F n 1 [v0] (v0 :: st) h 0 0) := (amWp_dec rfl dX2_size_0 rfl).trans rfl
theorem uX2_size_0 {ret F n h} {v0 st} : sX2_size ret F n 0 [v0] (st) h 0 0 = (amIsR v0 ∧ eX2_size ret F n 1 [v0] (v0 :: st) h 0 0) := (amWs_dec dX2_size_0 rfl).trans rfl
theorem wX2_size_1 {ret F n h} {v0 a} : eX2_size ret F (n + 1) 1 [v0] (.ref a :: []) h 0 0 = (h.1 a = (0, 2) ∧ eX2_size ret F n 4 [v0] (.int (h.2.1 a 1) :: []) h 0 0) := (amWp_dec rfl dX2_size_1 rfl).trans (amS4 (Nat.le_of_ble_eq_true rfl) (Nat.le_of_ble_eq_true rfl) (Nat.le_of_ble_eq_true rfl) (Nat.le_of_ble_eq_true rfl))
theorem wX2_size_4 {ret F n h} {v0 x} : eX2_size ret F (n + 1) 4 [v0] ([.int x]) h 0 0 = (ret (some (.int x)) h 0 0) := (amWp_dec rfl dX2_size_4 rfl).trans (amTrue ⟨_, rfl, rfl⟩)
theorem evX2_size (l : Launch) (G : amG) : ∀ pc S i sz, amLk rX2_size pc = some S → decode cX2_size pc = .ok (i, sz) → amSiteP pc G l yX2_size.cls yX2_size.name yX2_size.desc (amRm 1 0 0) i sz S.1 S.2.1 S.2.2.1 S.2.2.2 := amLk_ok (by
  refine List.forall_mem_cons.mpr ⟨⟨_, _, dX2_size_1, amSite.P (amSiteGet ⟨_, rfl, by decide, Or.inl q136⟩)⟩, ?_⟩
  exact fun _ h => absurd h List.not_mem_nil)
theorem goX2_size {ret F} (hF : amCld cX2_size kX2_size (amLk rX2_size) (some .int) 0 0 ret F) (n : Nat) {pc ls st h k z} (q : sX2_size ret F n pc ls st h k z) : F pc ls st h k z := hF.1 n pc ls st h k z q
theorem metX2_size (l : Launch) (G : amG) : amMet l G yX2_size (ws_ yX2_size cX2_size 1 (some .int)) 1 0 0 tX2_size := by
  refine amMet_of (cut := kX2_size) (by decide +kernel) (evX2_size l G) ?_
  intro as h K hT
  match as, hT with
  | [.ref b], ⟨h1, hK⟩ =>
  refine ⟨Nat.le_of_ble_eq_true rfl, fun F hF => ?_⟩
  show F 0 [.ref b] [] h 0 0
  obtain ⟨b, rfl⟩ : ∃ i : Nat, i = b := ⟨_, rfl⟩
  refine goX2_size hF 10 ?_
  simp (disch := omega) only [wX2_size_0, uX2_size_0, wX2_size_1, wX2_size_4, amSI_1, amSI_2, amSI_3, amSI_s, amU_at, amIsR_ref, amIsR_null, amIsR_rf, amRf_some, amRf_none, amClr_int, amClr_ref, amClr_null, amClr_long, amClr_ra, amClr_rf, amFit_int, amFit_oref, amFit_aref, amFit_onull, amFit_anull, amOptSome, amOptNone, List.cons_append, List.nil_append, true_and, and_true, true_implies, not_true_eq_false, not_false_eq_true, false_implies, and_self, Nat.add_zero, Nat.zero_add, ne_eq, Prod.mk.injEq, amC01_0, amC01_1, amC01_nb, amNb0, amNb1, amTcpI_d, Nat.reduceLeDiff, Nat.reduceAdd, Nat.reduceSub, Nat.reduceEqDiff, Nat.le_refl, amN0le, h1]
  exact amRet.of (by decide) (by decide) hK
theorem tX2_size_d {b : Nat} {h : amH} {K : Option Value → amH → Prop} : tX2_size [.ref b] h K = (h.1 b = (0, 2) ∧ K (some (.int (h.2.1 b 1))) h) := rfl
def tX2_at : amT := fun as h K => match as with
  | [.ref b, .int i] => bdAt h b ∧ vp_in i 7 ∧ K (some (.int (h.2.1 (b + 1) i.toNatClampNeg))) h
  | _ => False
/-! ReadingStages$Board.at(I)I -/
def kX2_at : Nat → Bool := fun pc => false
def rX2_at : List (Nat × amS) := [(1, 1, 0, 0, amTget 2 0)]
def eX2_at (ret : Option Value → amH → Nat → Nat → Prop) (F : amX) : Nat → amX := amWp cX2_at kX2_at (amLk rX2_at) (some .int) 0 0 ret F
def sX2_at (ret : Option Value → amH → Nat → Nat → Prop) (F : amX) : Nat → amX := amWs cX2_at kX2_at (amLk rX2_at) (some .int) 0 0 ret F
theorem wX2_at_0 {ret F n h} {v0 v1 st} : eX2_at ret F (n + 1) 0 [v0, v1] (st) h 0 0 = (amIsR v0 ∧ eX2_at ret F n 1 [v0, v1] (v0 :: st) h 0 0) := (amWp_dec rfl dX2_at_0 rfl).trans rfl
theorem uX2_at_0 {ret F n h} {v0 v1 st} : sX2_at ret F n 0 [v0, v1] (st) h 0 0 = (amIsR v0 ∧ eX2_at ret F n 1 [v0, v1] (v0 :: st) h 0 0) := (amWs_dec dX2_at_0 rfl).trans rfl
theorem wX2_at_1 {ret F n h} {v0 v1 a} : eX2_at ret F (n + 1) 1 [v0, v1] (.ref a :: []) h 0 0 = (h.1 a = (0, 2) ∧ eX2_at ret F n 4 [v0, v1] (va_rf (h.2.2.2.1 a 0) :: []) h 0 0) := (amWp_dec rfl dX2_at_1 rfl).trans (amS4 (Nat.le_of_ble_eq_true rfl) (Nat.le_of_ble_eq_true rfl) (Nat.le_of_ble_eq_true rfl) (Nat.le_of_ble_eq_true rfl))
theorem wX2_at_4 {ret F n h} {v0 st x} : eX2_at ret F (n + 1) 4 [v0, .int x] (st) h 0 0 = (eX2_at ret F n 5 [v0, .int x] (.int x :: st) h 0 0) := (amWp_dec rfl dX2_at_4 rfl).trans rfl
theorem wX2_at_5 {ret F n h} {v0 v1 st x a} : eX2_at ret F (n + 1) 5 [v0, v1] (.int x :: .ref a :: st) h 0 0 = ((h.1 a).1 = 2 ∧ vp_in x (h.1 a).2 ∧ eX2_at ret F n 6 [v0, v1] (.int (h.2.1 a x.toNatClampNeg) :: st) h 0 0) := (amWp_dec rfl dX2_at_5 rfl).trans rfl
theorem wX2_at_6 {ret F n h} {v0 v1 x} : eX2_at ret F (n + 1) 6 [v0, v1] ([.int x]) h 0 0 = (ret (some (.int x)) h 0 0) := (amWp_dec rfl dX2_at_6 rfl).trans (amTrue ⟨_, rfl, rfl⟩)
theorem evX2_at (l : Launch) (G : amG) : ∀ pc S i sz, amLk rX2_at pc = some S → decode cX2_at pc = .ok (i, sz) → amSiteP pc G l yX2_at.cls yX2_at.name yX2_at.desc (amRm 1 0 0) i sz S.1 S.2.1 S.2.2.1 S.2.2.2 := amLk_ok (by
  refine List.forall_mem_cons.mpr ⟨⟨_, _, dX2_at_1, amSite.P (amSiteGet ⟨_, rfl, by decide, Or.inl q135⟩)⟩, ?_⟩
  exact fun _ h => absurd h List.not_mem_nil)
theorem goX2_at {ret F} (hF : amCld cX2_at kX2_at (amLk rX2_at) (some .int) 0 0 ret F) (n : Nat) {pc ls st h k z} (q : sX2_at ret F n pc ls st h k z) : F pc ls st h k z := hF.1 n pc ls st h k z q
theorem metX2_at (l : Launch) (G : amG) : amMet l G yX2_at (ws_ yX2_at cX2_at 2 (some .int)) 1 0 0 tX2_at := by
  refine amMet_of (cut := kX2_at) (by decide +kernel) (evX2_at l G) ?_
  intro as h K hT
  match as, hT with
  | [.ref b, .int i], ⟨⟨h1, h2, h3⟩, h4, hK⟩ =>
  refine ⟨Nat.le_of_ble_eq_true rfl, fun F hF => ?_⟩
  show F 0 [.ref b, .int i] [] h 0 0
  obtain ⟨b, rfl⟩ : ∃ i : Nat, i = b := ⟨_, rfl⟩
  refine goX2_at hF 10 ?_
  simp (disch := omega) only [wX2_at_0, uX2_at_0, wX2_at_1, wX2_at_4, wX2_at_5, wX2_at_6, amSI_1, amSI_2, amSI_3, amSI_s, amU_at, amIsR_ref, amIsR_null, amIsR_rf, amRf_some, amRf_none, amClr_int, amClr_ref, amClr_null, amClr_long, amClr_ra, amClr_rf, amFit_int, amFit_oref, amFit_aref, amFit_onull, amFit_anull, amOptSome, amOptNone, List.cons_append, List.nil_append, true_and, and_true, true_implies, not_true_eq_false, not_false_eq_true, false_implies, and_self, Nat.add_zero, Nat.zero_add, ne_eq, Prod.mk.injEq, amC01_0, amC01_1, amC01_nb, amNb0, amNb1, amTcpI_d, Nat.reduceLeDiff, Nat.reduceAdd, Nat.reduceSub, Nat.reduceEqDiff, Nat.le_refl, amN0le, h1, h2, h3, h4]
  exact amRet.of (by decide) (by decide) hK
theorem tX2_at_d {b : Nat} {i : Int32} {h : amH} {K : Option Value → amH → Prop} : tX2_at [.ref b, .int i] h K = (bdAt h b ∧ vp_in i 7 ∧ K (some (.int (h.2.1 (b + 1) i.toNatClampNeg))) h) := rfl
def tX2_clear : amT := fun as h K => match as with
  | [.ref b] => h.1 b = (0, 2) ∧ amN0 ≤ b ∧ K none (amSI h (amU h.2.1 b 1 (nI 0)))
  | _ => False
/-! ReadingStages$Board.clear()V -/
def kX2_clear : Nat → Bool := fun pc => false
def rX2_clear : List (Nat × amS) := [(2, 2, 0, 0, amTput 2 1)]
def eX2_clear (ret : Option Value → amH → Nat → Nat → Prop) (F : amX) : Nat → amX := amWp cX2_clear kX2_clear (amLk rX2_clear) none 0 0 ret F
def sX2_clear (ret : Option Value → amH → Nat → Nat → Prop) (F : amX) : Nat → amX := amWs cX2_clear kX2_clear (amLk rX2_clear) none 0 0 ret F
theorem wX2_clear_0 {ret F n h} {v0 st} : eX2_clear ret F (n + 1) 0 [v0] (st) h 0 0 = (amIsR v0 ∧ eX2_clear ret F n 1 [v0] (v0 :: st) h 0 0) := (amWp_dec rfl dX2_clear_0 rfl).trans rfl
theorem uX2_clear_0 {ret F n h} {v0 st} : sX2_clear ret F n 0 [v0] (st) h 0 0 = (amIsR v0 ∧ eX2_clear ret F n 1 [v0] (v0 :: st) h 0 0) := (amWs_dec dX2_clear_0 rfl).trans rfl
theorem wX2_clear_1 {ret F n h} {v0 st} : eX2_clear ret F (n + 1) 1 [v0] (st) h 0 0 = (eX2_clear ret F n 2 [v0] (.int (nI 0) :: st) h 0 0) := (amWp_dec rfl dX2_clear_1 rfl).trans rfl
theorem wX2_clear_2 {ret F n h} {v0 x a} : eX2_clear ret F (n + 1) 2 [v0] (.int x :: .ref a :: []) h 0 0 = (h.1 a = (0, 2) ∧ amN0 ≤ a ∧ amFit .int (.int x) ∧ eX2_clear ret F n 5 [v0] ([]) (amSI h (amU h.2.1 a 1 x)) 0 0) := (amWp_dec rfl dX2_clear_2 rfl).trans (amS4 (Nat.le_of_ble_eq_true rfl) (Nat.le_of_ble_eq_true rfl) (Nat.le_of_ble_eq_true rfl) (Nat.le_of_ble_eq_true rfl))
theorem wX2_clear_5 {ret F n h} {v0} : eX2_clear ret F (n + 1) 5 [v0] ([]) h 0 0 = (ret none h 0 0) := (amWp_dec rfl dX2_clear_5 rfl).trans (amTrue rfl)
theorem evX2_clear (l : Launch) (G : amG) : ∀ pc S i sz, amLk rX2_clear pc = some S → decode cX2_clear pc = .ok (i, sz) → amSiteP pc G l yX2_clear.cls yX2_clear.name yX2_clear.desc (amRm 1 0 0) i sz S.1 S.2.1 S.2.2.1 S.2.2.2 := amLk_ok (by
  refine List.forall_mem_cons.mpr ⟨⟨_, _, dX2_clear_2, amSite.P (amSitePut ⟨_, rfl, by decide, Or.inl q136⟩ (fun q h => by cases h; rfl))⟩, ?_⟩
  exact fun _ h => absurd h List.not_mem_nil)
theorem goX2_clear {ret F} (hF : amCld cX2_clear kX2_clear (amLk rX2_clear) none 0 0 ret F) (n : Nat) {pc ls st h k z} (q : sX2_clear ret F n pc ls st h k z) : F pc ls st h k z := hF.1 n pc ls st h k z q
theorem metX2_clear (l : Launch) (G : amG) : amMet l G yX2_clear (ws_ yX2_clear cX2_clear 1 none) 1 0 0 tX2_clear := by
  refine amMet_of (cut := kX2_clear) (by decide +kernel) (evX2_clear l G) ?_
  intro as h K hT
  match as, hT with
  | [.ref b], ⟨h1, h2, hK⟩ =>
  refine ⟨Nat.le_of_ble_eq_true rfl, fun F hF => ?_⟩
  show F 0 [.ref b] [] h 0 0
  obtain ⟨b, rfl⟩ : ∃ i : Nat, i = b := ⟨_, rfl⟩
  refine goX2_clear hF 10 ?_
  simp (disch := omega) only [wX2_clear_0, uX2_clear_0, wX2_clear_1, wX2_clear_2, wX2_clear_5, amSI_1, amSI_2, amSI_3, amSI_s, amU_at, amIsR_ref, amIsR_null, amIsR_rf, amRf_some, amRf_none, amClr_int, amClr_ref, amClr_null, amClr_long, amClr_ra, amClr_rf, amFit_int, amFit_oref, amFit_aref, amFit_onull, amFit_anull, amOptSome, amOptNone, List.cons_append, List.nil_append, true_and, and_true, true_implies, not_true_eq_false, not_false_eq_true, false_implies, and_self, Nat.add_zero, Nat.zero_add, ne_eq, Prod.mk.injEq, amC01_0, amC01_1, amC01_nb, amNb0, amNb1, amTcpI_d, Nat.reduceLeDiff, Nat.reduceAdd, Nat.reduceSub, Nat.reduceEqDiff, Nat.le_refl, amN0le, h1, h2]
  exact amRet.of (by decide) (by decide) hK
theorem tX2_clear_d {b : Nat} {h : amH} {K : Option Value → amH → Prop} : tX2_clear [.ref b] h K = (h.1 b = (0, 2) ∧ amN0 ≤ b ∧ K none (amSI h (amU h.2.1 b 1 (nI 0)))) := rfl
/-- a board copied -/
def bdCopy (m : Nat → Nat → Int32) (b c : Nat) : Nat → Nat → Int32 := amU (va_up m (b + 1) (va_cpy (m (c + 1)) (m (b + 1)) 0 0 7)) b 1 (m c 1)
def tX2_takeFrom : amT := fun as h K => match as with
  | [.ref b, .ref c] => bdAt h b ∧ bdAt h c ∧ amN0 ≤ b ∧ c ≠ b + 1 ∧ K none (amSI h (bdCopy h.2.1 b c))
  | _ => False
/-! ReadingStages$Board.takeFrom(LReadingStages$Board;)V -/
def kX2_takeFrom : Nat → Bool := fun pc => false
def rX2_takeFrom : List (Nat × amS) := [(1, 1, 0, 0, amTget 2 0), (6, 1, 0, 0, amTget 2 0), (12, 5, 0, 0, amTcpI), (17, 1, 0, 0, amTget 2 1), (20, 2, 0, 0, amTput 2 1)]
def eX2_takeFrom (ret : Option Value → amH → Nat → Nat → Prop) (F : amX) : Nat → amX := amWp cX2_takeFrom kX2_takeFrom (amLk rX2_takeFrom) none 0 0 ret F
def sX2_takeFrom (ret : Option Value → amH → Nat → Nat → Prop) (F : amX) : Nat → amX := amWs cX2_takeFrom kX2_takeFrom (amLk rX2_takeFrom) none 0 0 ret F
theorem wX2_takeFrom_0 {ret F n h} {v0 v1 st} : eX2_takeFrom ret F (n + 1) 0 [v0, v1] (st) h 0 0 = (amIsR v1 ∧ eX2_takeFrom ret F n 1 [v0, v1] (v1 :: st) h 0 0) := (amWp_dec rfl dX2_takeFrom_0 rfl).trans rfl
theorem uX2_takeFrom_0 {ret F n h} {v0 v1 st} : sX2_takeFrom ret F n 0 [v0, v1] (st) h 0 0 = (amIsR v1 ∧ eX2_takeFrom ret F n 1 [v0, v1] (v1 :: st) h 0 0) := (amWs_dec dX2_takeFrom_0 rfl).trans rfl
theorem wX2_takeFrom_1 {ret F n h} {v0 v1 a} : eX2_takeFrom ret F (n + 1) 1 [v0, v1] (.ref a :: []) h 0 0 = (h.1 a = (0, 2) ∧ eX2_takeFrom ret F n 4 [v0, v1] (va_rf (h.2.2.2.1 a 0) :: []) h 0 0) := (amWp_dec rfl dX2_takeFrom_1 rfl).trans (amS4 (Nat.le_of_ble_eq_true rfl) (Nat.le_of_ble_eq_true rfl) (Nat.le_of_ble_eq_true rfl) (Nat.le_of_ble_eq_true rfl))
theorem wX2_takeFrom_4 {ret F n h} {v0 v1 st} : eX2_takeFrom ret F (n + 1) 4 [v0, v1] (st) h 0 0 = (eX2_takeFrom ret F n 5 [v0, v1] (.int (nI 0) :: st) h 0 0) := (amWp_dec rfl dX2_takeFrom_4 rfl).trans rfl
theorem wX2_takeFrom_5 {ret F n h} {v0 v1 st} : eX2_takeFrom ret F (n + 1) 5 [v0, v1] (st) h 0 0 = (amIsR v0 ∧ eX2_takeFrom ret F n 6 [v0, v1] (v0 :: st) h 0 0) := (amWp_dec rfl dX2_takeFrom_5 rfl).trans rfl
theorem wX2_takeFrom_6 {ret F n h} {v0 v1 r0 r1 a} : eX2_takeFrom ret F (n + 1) 6 [v0, v1] (.ref a :: r0 :: r1 :: []) h 0 0 = (h.1 a = (0, 2) ∧ eX2_takeFrom ret F n 9 [v0, v1] (va_rf (h.2.2.2.1 a 0) :: r0 :: r1 :: []) h 0 0) := (amWp_dec rfl dX2_takeFrom_6 rfl).trans (amS4 (Nat.le_of_ble_eq_true rfl) (Nat.le_of_ble_eq_true rfl) (Nat.le_of_ble_eq_true rfl) (Nat.le_of_ble_eq_true rfl))
theorem wX2_takeFrom_9 {ret F n h} {v0 v1 st} : eX2_takeFrom ret F (n + 1) 9 [v0, v1] (st) h 0 0 = (eX2_takeFrom ret F n 10 [v0, v1] (.int (nI 0) :: st) h 0 0) := (amWp_dec rfl dX2_takeFrom_9 rfl).trans rfl
theorem wX2_takeFrom_10 {ret F n h} {v0 v1 st} : eX2_takeFrom ret F (n + 1) 10 [v0, v1] (st) h 0 0 = (eX2_takeFrom ret F n 12 [v0, v1] (.int (nI 7) :: st) h 0 0) := (amWp_dec rfl dX2_takeFrom_10 rfl).trans rfl
theorem wX2_takeFrom_12 {ret F n h} {v0 v1 x4 x3 x2 x1 x0} : eX2_takeFrom ret F (n + 1) 12 [v0, v1] (.int x4 :: .int x3 :: .ref x2 :: .int x1 :: .ref x0 :: []) h 0 0 = (amTcpI [.ref x0, .int x1, .ref x2, .int x3, .int x4] h (fun v h => eX2_takeFrom ret F n 15 [v0, v1] (v.toList ++ ([])) h 0 0)) := (amWp_dec rfl dX2_takeFrom_12 rfl).trans (amS4 (Nat.le_of_ble_eq_true rfl) (Nat.le_of_ble_eq_true rfl) (Nat.le_of_ble_eq_true rfl) (Nat.le_of_ble_eq_true rfl))
theorem wX2_takeFrom_15 {ret F n h} {v0 v1 st} : eX2_takeFrom ret F (n + 1) 15 [v0, v1] (st) h 0 0 = (amIsR v0 ∧ eX2_takeFrom ret F n 16 [v0, v1] (v0 :: st) h 0 0) := (amWp_dec rfl dX2_takeFrom_15 rfl).trans rfl
theorem wX2_takeFrom_16 {ret F n h} {v0 v1 st} : eX2_takeFrom ret F (n + 1) 16 [v0, v1] (st) h 0 0 = (amIsR v1 ∧ eX2_takeFrom ret F n 17 [v0, v1] (v1 :: st) h 0 0) := (amWp_dec rfl dX2_takeFrom_16 rfl).trans rfl
theorem wX2_takeFrom_17 {ret F n h} {v0 v1 r0 a} : eX2_takeFrom ret F (n + 1) 17 [v0, v1] (.ref a :: r0 :: []) h 0 0 = (h.1 a = (0, 2) ∧ eX2_takeFrom ret F n 20 [v0, v1] (.int (h.2.1 a 1) :: r0 :: []) h 0 0) := (amWp_dec rfl dX2_takeFrom_17 rfl).trans (amS4 (Nat.le_of_ble_eq_true rfl) (Nat.le_of_ble_eq_true rfl) (Nat.le_of_ble_eq_true rfl) (Nat.le_of_ble_eq_true rfl))
theorem wX2_takeFrom_20 {ret F n h} {v0 v1 x a} : eX2_takeFrom ret F (n + 1) 20 [v0, v1] (.int x :: .ref a :: []) h 0 0 = (h.1 a = (0, 2) ∧ amN0 ≤ a ∧ amFit .int (.int x) ∧ eX2_takeFrom ret F n 23 [v0, v1] ([]) (amSI h (amU h.2.1 a 1 x)) 0 0) := (amWp_dec rfl dX2_takeFrom_20 rfl).trans (amS4 (Nat.le_of_ble_eq_true rfl) (Nat.le_of_ble_eq_true rfl) (Nat.le_of_ble_eq_true rfl) (Nat.le_of_ble_eq_true rfl))
theorem wX2_takeFrom_23 {ret F n h} {v0 v1} : eX2_takeFrom ret F (n + 1) 23 [v0, v1] ([]) h 0 0 = (ret none h 0 0) := (amWp_dec rfl dX2_takeFrom_23 rfl).trans (amTrue rfl)
theorem evX2_takeFrom (l : Launch) (G : amG) : ∀ pc S i sz, amLk rX2_takeFrom pc = some S → decode cX2_takeFrom pc = .ok (i, sz) → amSiteP pc G l yX2_takeFrom.cls yX2_takeFrom.name yX2_takeFrom.desc (amRm 1 0 0) i sz S.1 S.2.1 S.2.2.1 S.2.2.2 := amLk_ok (by
  refine List.forall_mem_cons.mpr ⟨⟨_, _, dX2_takeFrom_1, amSite.P (amSiteGet ⟨_, rfl, by decide, Or.inl q135⟩)⟩, ?_⟩
  refine List.forall_mem_cons.mpr ⟨⟨_, _, dX2_takeFrom_6, amSite.P (amSiteGet ⟨_, rfl, by decide, Or.inl q135⟩)⟩, ?_⟩
  refine List.forall_mem_cons.mpr ⟨⟨_, _, dX2_takeFrom_12, amSite.P (amSiteCpI rfl (by decide) q471 q473 q472 q95)⟩, ?_⟩
  refine List.forall_mem_cons.mpr ⟨⟨_, _, dX2_takeFrom_17, amSite.P (amSiteGet ⟨_, rfl, by decide, Or.inl q136⟩)⟩, ?_⟩
  refine List.forall_mem_cons.mpr ⟨⟨_, _, dX2_takeFrom_20, amSite.P (amSitePut ⟨_, rfl, by decide, Or.inl q136⟩ (fun q h => by cases h; rfl))⟩, ?_⟩
  exact fun _ h => absurd h List.not_mem_nil)
theorem goX2_takeFrom {ret F} (hF : amCld cX2_takeFrom kX2_takeFrom (amLk rX2_takeFrom) none 0 0 ret F) (n : Nat) {pc ls st h k z} (q : sX2_takeFrom ret F n pc ls st h k z) : F pc ls st h k z := hF.1 n pc ls st h k z q
theorem metX2_takeFrom (l : Launch) (G : amG) : amMet l G yX2_takeFrom (ws_ yX2_takeFrom cX2_takeFrom 2 none) 1 0 0 tX2_takeFrom := by
  refine amMet_of (cut := kX2_takeFrom) (by decide +kernel) (evX2_takeFrom l G) ?_
  intro as h K hT
  match as, hT with
  | [.ref b, .ref c], ⟨⟨h1, h2, h3⟩, ⟨g1, g2, g3⟩, h4, h5, hK⟩ =>
  refine ⟨Nat.le_of_ble_eq_true rfl, fun F hF => ?_⟩
  show F 0 [.ref b, .ref c] [] h 0 0
  obtain ⟨b, rfl⟩ : ∃ i : Nat, i = b := ⟨_, rfl⟩
  obtain ⟨c, rfl⟩ : ∃ i : Nat, i = c := ⟨_, rfl⟩
  have h6 : amN0 ≤ b + 1 := by omega
  refine goX2_takeFrom hF 40 ?_
  simp (disch := omega) only [wX2_takeFrom_0, uX2_takeFrom_0, wX2_takeFrom_1, wX2_takeFrom_4, wX2_takeFrom_5, wX2_takeFrom_6, wX2_takeFrom_9, wX2_takeFrom_10, wX2_takeFrom_12, wX2_takeFrom_15, wX2_takeFrom_16, wX2_takeFrom_17, wX2_takeFrom_20, wX2_takeFrom_23, amSI_1, amSI_2, amSI_3, amSI_s, amU_at, amIsR_ref, amIsR_null, amIsR_rf, amRf_some, amRf_none, amClr_int, amClr_ref, amClr_null, amClr_long, amClr_ra, amClr_rf, amFit_int, amFit_oref, amFit_aref, amFit_onull, amFit_anull, amOptSome, amOptNone, List.cons_append, List.nil_append, true_and, and_true, true_implies, not_true_eq_false, not_false_eq_true, false_implies, and_self, Nat.add_zero, Nat.zero_add, ne_eq, Prod.mk.injEq, amC01_0, amC01_1, amC01_nb, amNb0, amNb1, amTcpI_d, Nat.reduceLeDiff, Nat.reduceAdd, Nat.reduceSub, Nat.reduceEqDiff, Nat.le_refl, amN0le, h1, h2, h3, h4, h6, g1, g2, g3, amCl_nI, amNotPosI]
  refine amRet.of (by decide) (by decide) ?_
  have e : va_up h.2.1 (b + 1) (va_cpy (h.2.1 (c + 1)) (h.2.1 (b + 1)) 0 0 7) c 1 = h.2.1 c 1 := by simp [va_up, h5]
  rw [e]
  exact hK
def tX2_put : amT := fun as h K => match as with
  | [.ref b, .int p0, .int x0] => ∃ (l : List Nat) (p x : Nat), p0 = nI p ∧ x0 = nI x ∧ bdAt h b ∧ amN0 ≤ b ∧ bdIs h.2.1 b l ∧ p ≤ l.length ∧ l.length < 7 ∧ x < 7 ∧ ∀ m', bdIs m' b (l.insertIdx p x) → bdFr h.2.1 m' b → K none (amSI h m')
  | _ => False
/-! ReadingStages$Board.put(II)V -/
def kX2_put : Nat → Bool := fun pc => false
def rX2_put : List (Nat × amS) := [(1, 1, 0, 0, amTget 2 0), (6, 1, 0, 0, amTget 2 0), (13, 1, 0, 0, amTget 2 1), (18, 5, 0, 0, amTcpI), (22, 1, 0, 0, amTget 2 0), (31, 1, 0, 0, amTget 2 1), (36, 2, 0, 0, amTput 2 1)]
def eX2_put (ret : Option Value → amH → Nat → Nat → Prop) (F : amX) : Nat → amX := amWp cX2_put kX2_put (amLk rX2_put) none 0 0 ret F
def sX2_put (ret : Option Value → amH → Nat → Nat → Prop) (F : amX) : Nat → amX := amWs cX2_put kX2_put (amLk rX2_put) none 0 0 ret F
theorem wX2_put_0 {ret F n h} {v0 v1 v2 st} : eX2_put ret F (n + 1) 0 [v0, v1, v2] (st) h 0 0 = (amIsR v0 ∧ eX2_put ret F n 1 [v0, v1, v2] (v0 :: st) h 0 0) := (amWp_dec rfl dX2_put_0 rfl).trans rfl
theorem uX2_put_0 {ret F n h} {v0 v1 v2 st} : sX2_put ret F n 0 [v0, v1, v2] (st) h 0 0 = (amIsR v0 ∧ eX2_put ret F n 1 [v0, v1, v2] (v0 :: st) h 0 0) := (amWs_dec dX2_put_0 rfl).trans rfl
theorem wX2_put_1 {ret F n h} {v0 v1 v2 a} : eX2_put ret F (n + 1) 1 [v0, v1, v2] (.ref a :: []) h 0 0 = (h.1 a = (0, 2) ∧ eX2_put ret F n 4 [v0, v1, v2] (va_rf (h.2.2.2.1 a 0) :: []) h 0 0) := (amWp_dec rfl dX2_put_1 rfl).trans (amS4 (Nat.le_of_ble_eq_true rfl) (Nat.le_of_ble_eq_true rfl) (Nat.le_of_ble_eq_true rfl) (Nat.le_of_ble_eq_true rfl))
theorem wX2_put_4 {ret F n h} {v0 v2 st x} : eX2_put ret F (n + 1) 4 [v0, .int x, v2] (st) h 0 0 = (eX2_put ret F n 5 [v0, .int x, v2] (.int x :: st) h 0 0) := (amWp_dec rfl dX2_put_4 rfl).trans rfl
theorem wX2_put_5 {ret F n h} {v0 v1 v2 st} : eX2_put ret F (n + 1) 5 [v0, v1, v2] (st) h 0 0 = (amIsR v0 ∧ eX2_put ret F n 6 [v0, v1, v2] (v0 :: st) h 0 0) := (amWp_dec rfl dX2_put_5 rfl).trans rfl
theorem wX2_put_6 {ret F n h} {v0 v1 v2 r0 r1 a} : eX2_put ret F (n + 1) 6 [v0, v1, v2] (.ref a :: r0 :: r1 :: []) h 0 0 = (h.1 a = (0, 2) ∧ eX2_put ret F n 9 [v0, v1, v2] (va_rf (h.2.2.2.1 a 0) :: r0 :: r1 :: []) h 0 0) := (amWp_dec rfl dX2_put_6 rfl).trans (amS4 (Nat.le_of_ble_eq_true rfl) (Nat.le_of_ble_eq_true rfl) (Nat.le_of_ble_eq_true rfl) (Nat.le_of_ble_eq_true rfl))
theorem wX2_put_9 {ret F n h} {v0 v2 st x} : eX2_put ret F (n + 1) 9 [v0, .int x, v2] (st) h 0 0 = (eX2_put ret F n 10 [v0, .int x, v2] (.int x :: st) h 0 0) := (amWp_dec rfl dX2_put_9 rfl).trans rfl
theorem wX2_put_10 {ret F n h} {v0 v1 v2 st} : eX2_put ret F (n + 1) 10 [v0, v1, v2] (st) h 0 0 = (eX2_put ret F n 11 [v0, v1, v2] (.int (nI 1) :: st) h 0 0) := (amWp_dec rfl dX2_put_10 rfl).trans rfl
theorem wX2_put_11 {ret F n h} {v0 v1 v2 st y x} : eX2_put ret F (n + 1) 11 [v0, v1, v2] (.int y :: .int x :: st) h 0 0 = (eX2_put ret F n 12 [v0, v1, v2] (.int (x + y) :: st) h 0 0) := (amWp_dec rfl dX2_put_11 rfl).trans rfl
theorem wX2_put_12 {ret F n h} {v0 v1 v2 st} : eX2_put ret F (n + 1) 12 [v0, v1, v2] (st) h 0 0 = (amIsR v0 ∧ eX2_put ret F n 13 [v0, v1, v2] (v0 :: st) h 0 0) := (amWp_dec rfl dX2_put_12 rfl).trans rfl
theorem wX2_put_13 {ret F n h} {v0 v1 v2 r0 r1 r2 r3 a} : eX2_put ret F (n + 1) 13 [v0, v1, v2] (.ref a :: r0 :: r1 :: r2 :: r3 :: []) h 0 0 = (h.1 a = (0, 2) ∧ eX2_put ret F n 16 [v0, v1, v2] (.int (h.2.1 a 1) :: r0 :: r1 :: r2 :: r3 :: []) h 0 0) := (amWp_dec rfl dX2_put_13 rfl).trans (amS4 (Nat.le_of_ble_eq_true rfl) (Nat.le_of_ble_eq_true rfl) (Nat.le_of_ble_eq_true rfl) (Nat.le_of_ble_eq_true rfl))
theorem wX2_put_16 {ret F n h} {v0 v2 st x} : eX2_put ret F (n + 1) 16 [v0, .int x, v2] (st) h 0 0 = (eX2_put ret F n 17 [v0, .int x, v2] (.int x :: st) h 0 0) := (amWp_dec rfl dX2_put_16 rfl).trans rfl
theorem wX2_put_17 {ret F n h} {v0 v1 v2 st y x} : eX2_put ret F (n + 1) 17 [v0, v1, v2] (.int y :: .int x :: st) h 0 0 = (eX2_put ret F n 18 [v0, v1, v2] (.int (x - y) :: st) h 0 0) := (amWp_dec rfl dX2_put_17 rfl).trans rfl
theorem wX2_put_18 {ret F n h} {v0 v1 v2 x4 x3 x2 x1 x0} : eX2_put ret F (n + 1) 18 [v0, v1, v2] (.int x4 :: .int x3 :: .ref x2 :: .int x1 :: .ref x0 :: []) h 0 0 = (amTcpI [.ref x0, .int x1, .ref x2, .int x3, .int x4] h (fun v h => eX2_put ret F n 21 [v0, v1, v2] (v.toList ++ ([])) h 0 0)) := (amWp_dec rfl dX2_put_18 rfl).trans (amS4 (Nat.le_of_ble_eq_true rfl) (Nat.le_of_ble_eq_true rfl) (Nat.le_of_ble_eq_true rfl) (Nat.le_of_ble_eq_true rfl))
theorem wX2_put_21 {ret F n h} {v0 v1 v2 st} : eX2_put ret F (n + 1) 21 [v0, v1, v2] (st) h 0 0 = (amIsR v0 ∧ eX2_put ret F n 22 [v0, v1, v2] (v0 :: st) h 0 0) := (amWp_dec rfl dX2_put_21 rfl).trans rfl
theorem wX2_put_22 {ret F n h} {v0 v1 v2 a} : eX2_put ret F (n + 1) 22 [v0, v1, v2] (.ref a :: []) h 0 0 = (h.1 a = (0, 2) ∧ eX2_put ret F n 25 [v0, v1, v2] (va_rf (h.2.2.2.1 a 0) :: []) h 0 0) := (amWp_dec rfl dX2_put_22 rfl).trans (amS4 (Nat.le_of_ble_eq_true rfl) (Nat.le_of_ble_eq_true rfl) (Nat.le_of_ble_eq_true rfl) (Nat.le_of_ble_eq_true rfl))
theorem wX2_put_25 {ret F n h} {v0 v2 st x} : eX2_put ret F (n + 1) 25 [v0, .int x, v2] (st) h 0 0 = (eX2_put ret F n 26 [v0, .int x, v2] (.int x :: st) h 0 0) := (amWp_dec rfl dX2_put_25 rfl).trans rfl
theorem wX2_put_26 {ret F n h} {v0 v1 st x} : eX2_put ret F (n + 1) 26 [v0, v1, .int x] (st) h 0 0 = (eX2_put ret F n 27 [v0, v1, .int x] (.int x :: st) h 0 0) := (amWp_dec rfl dX2_put_26 rfl).trans rfl
theorem wX2_put_27 {ret F n h} {v0 v1 v2 st x} : eX2_put ret F (n + 1) 27 [v0, v1, v2] (.int x :: st) h 0 0 = (eX2_put ret F n 28 [v0, v1, v2] (.int x.toInt8.toInt32 :: st) h 0 0) := (amWp_dec rfl dX2_put_27 rfl).trans rfl
theorem wX2_put_28 {ret F n h} {v0 v1 v2 st y x a} : eX2_put ret F (n + 1) 28 [v0, v1, v2] (.int y :: .int x :: .ref a :: st) h 0 0 = ((h.1 a).1 = 2 ∧ vp_in x (h.1 a).2 ∧ amN0 ≤ a ∧ eX2_put ret F n 29 [v0, v1, v2] (st) (amSI h (amU h.2.1 a x.toNatClampNeg (vp_nar .byte y))) 0 0) := (amWp_dec rfl dX2_put_28 rfl).trans rfl
theorem wX2_put_29 {ret F n h} {v0 v1 v2 st} : eX2_put ret F (n + 1) 29 [v0, v1, v2] (st) h 0 0 = (amIsR v0 ∧ eX2_put ret F n 30 [v0, v1, v2] (v0 :: st) h 0 0) := (amWp_dec rfl dX2_put_29 rfl).trans rfl
theorem wX2_put_30 {ret F n h} {v0 v1 v2 st b} : eX2_put ret F (n + 1) 30 [v0, v1, v2] (.ref b :: st) h 0 0 = (eX2_put ret F n 31 [v0, v1, v2] (.ref b :: .ref b :: st) h 0 0) := (amWp_dec rfl dX2_put_30 rfl).trans (amTrue rfl)
theorem wX2_put_31 {ret F n h} {v0 v1 v2 r0 a} : eX2_put ret F (n + 1) 31 [v0, v1, v2] (.ref a :: r0 :: []) h 0 0 = (h.1 a = (0, 2) ∧ eX2_put ret F n 34 [v0, v1, v2] (.int (h.2.1 a 1) :: r0 :: []) h 0 0) := (amWp_dec rfl dX2_put_31 rfl).trans (amS4 (Nat.le_of_ble_eq_true rfl) (Nat.le_of_ble_eq_true rfl) (Nat.le_of_ble_eq_true rfl) (Nat.le_of_ble_eq_true rfl))
theorem wX2_put_34 {ret F n h} {v0 v1 v2 st} : eX2_put ret F (n + 1) 34 [v0, v1, v2] (st) h 0 0 = (eX2_put ret F n 35 [v0, v1, v2] (.int (nI 1) :: st) h 0 0) := (amWp_dec rfl dX2_put_34 rfl).trans rfl
theorem wX2_put_35 {ret F n h} {v0 v1 v2 st y x} : eX2_put ret F (n + 1) 35 [v0, v1, v2] (.int y :: .int x :: st) h 0 0 = (eX2_put ret F n 36 [v0, v1, v2] (.int (x + y) :: st) h 0 0) := (amWp_dec rfl dX2_put_35 rfl).trans rfl
theorem wX2_put_36 {ret F n h} {v0 v1 v2 x a} : eX2_put ret F (n + 1) 36 [v0, v1, v2] (.int x :: .ref a :: []) h 0 0 = (h.1 a = (0, 2) ∧ amN0 ≤ a ∧ amFit .int (.int x) ∧ eX2_put ret F n 39 [v0, v1, v2] ([]) (amSI h (amU h.2.1 a 1 x)) 0 0) := (amWp_dec rfl dX2_put_36 rfl).trans (amS4 (Nat.le_of_ble_eq_true rfl) (Nat.le_of_ble_eq_true rfl) (Nat.le_of_ble_eq_true rfl) (Nat.le_of_ble_eq_true rfl))
theorem wX2_put_39 {ret F n h} {v0 v1 v2} : eX2_put ret F (n + 1) 39 [v0, v1, v2] ([]) h 0 0 = (ret none h 0 0) := (amWp_dec rfl dX2_put_39 rfl).trans (amTrue rfl)
theorem evX2_put (l : Launch) (G : amG) : ∀ pc S i sz, amLk rX2_put pc = some S → decode cX2_put pc = .ok (i, sz) → amSiteP pc G l yX2_put.cls yX2_put.name yX2_put.desc (amRm 1 0 0) i sz S.1 S.2.1 S.2.2.1 S.2.2.2 := amLk_ok (by
  refine List.forall_mem_cons.mpr ⟨⟨_, _, dX2_put_1, amSite.P (amSiteGet ⟨_, rfl, by decide, Or.inl q135⟩)⟩, ?_⟩
  refine List.forall_mem_cons.mpr ⟨⟨_, _, dX2_put_6, amSite.P (amSiteGet ⟨_, rfl, by decide, Or.inl q135⟩)⟩, ?_⟩
  refine List.forall_mem_cons.mpr ⟨⟨_, _, dX2_put_13, amSite.P (amSiteGet ⟨_, rfl, by decide, Or.inl q136⟩)⟩, ?_⟩
  refine List.forall_mem_cons.mpr ⟨⟨_, _, dX2_put_18, amSite.P (amSiteCpI rfl (by decide) q471 q473 q472 q95)⟩, ?_⟩
  refine List.forall_mem_cons.mpr ⟨⟨_, _, dX2_put_22, amSite.P (amSiteGet ⟨_, rfl, by decide, Or.inl q135⟩)⟩, ?_⟩
  refine List.forall_mem_cons.mpr ⟨⟨_, _, dX2_put_31, amSite.P (amSiteGet ⟨_, rfl, by decide, Or.inl q136⟩)⟩, ?_⟩
  refine List.forall_mem_cons.mpr ⟨⟨_, _, dX2_put_36, amSite.P (amSitePut ⟨_, rfl, by decide, Or.inl q136⟩ (fun q h => by cases h; rfl))⟩, ?_⟩
  exact fun _ h => absurd h List.not_mem_nil)
theorem goX2_put {ret F} (hF : amCld cX2_put kX2_put (amLk rX2_put) none 0 0 ret F) (n : Nat) {pc ls st h k z} (q : sX2_put ret F n pc ls st h k z) : F pc ls st h k z := hF.1 n pc ls st h k z q
theorem metX2_put (l : Launch) (G : amG) : amMet l G yX2_put (ws_ yX2_put cX2_put 3 none) 1 0 0 tX2_put := by
  refine amMet_of (cut := kX2_put) (by decide +kernel) (evX2_put l G) ?_
  intro as h K hT
  match as, hT with
  | [.ref b, .int p0, .int x0], ⟨l, p, x, e1, e2, ⟨h1, h2, h3⟩, h4, ⟨i1, i2, i3, i4⟩, h5, h6, h7, hK⟩ =>
  refine ⟨Nat.le_of_ble_eq_true rfl, fun F hF => ?_⟩
  show F 0 [.ref b, .int p0, .int x0] [] h 0 0
  obtain ⟨b, rfl⟩ : ∃ i : Nat, i = b := ⟨_, rfl⟩
  subst e1; subst e2
  have h9 : amN0 ≤ b + 1 := by omega
  refine goX2_put hF 40 ?_
  simp (disch := omega) only [wX2_put_0, uX2_put_0, wX2_put_1, wX2_put_4, wX2_put_5, wX2_put_6, wX2_put_9, wX2_put_10, wX2_put_11, wX2_put_12, wX2_put_13, wX2_put_16, wX2_put_17, wX2_put_18, wX2_put_21, wX2_put_22, wX2_put_25, wX2_put_26, wX2_put_27, wX2_put_28, wX2_put_29, wX2_put_30, wX2_put_31, wX2_put_34, wX2_put_35, wX2_put_36, wX2_put_39, amSI_1, amSI_2, amSI_3, amSI_s, amU_at, amIsR_ref, amIsR_null, amIsR_rf, amRf_some, amRf_none, amClr_int, amClr_ref, amClr_null, amClr_long, amClr_ra, amClr_rf, amFit_int, amFit_oref, amFit_aref, amFit_onull, amFit_anull, amOptSome, amOptNone, List.cons_append, List.nil_append, true_and, and_true, true_implies, not_true_eq_false, not_false_eq_true, false_implies, and_self, Nat.add_zero, Nat.zero_add, ne_eq, Prod.mk.injEq, amC01_0, amC01_1, amC01_nb, amNb0, amNb1, amTcpI_d, Nat.reduceLeDiff, Nat.reduceAdd, Nat.reduceSub, Nat.reduceEqDiff, Nat.le_refl, amN0le, h1, h2, h3, h4, h9, i3, amCl_nI, amNotPosI, amSub, amAdd, amVI, amByte, amByteN]
  refine ⟨by omega, by omega, amRet.of (by decide) (by decide) (hK _ ⟨?_, ?_, ?_, ?_⟩ ?_)⟩
  · rw [List.length_insertIdx_of_le_length h5]; omega
  · intro y hy
    rcases (List.mem_insertIdx h5).mp hy with e | e
    · omega
    · exact i2 y e
  · rw [List.length_insertIdx_of_le_length h5, amU_at, amU_ne (by omega)]
    simp [va_up, i3, amAdd]
  · intro i hi
    rw [List.length_insertIdx_of_le_length h5] at hi
    rw [amU_ne (by omega), ins_getD h5]
    by_cases q : i = p
    · rw [q, amU_at, if_neg (by omega), if_pos rfl]
    · rw [amU_nj q]
      simp only [va_up, if_pos, va_cpy]
      by_cases q2 : i < p
      · rw [if_neg (by omega), if_pos q2]
        exact i4 i (by omega)
      · rw [if_pos (by omega), if_neg q2, if_neg q, i4 _ (by omega)]
        congr 2
        omega
  · intro i hi
    simp (disch := omega) only [amU_at, amU_ne, amU_nj, amU_neR, up_ne, up_at, amSI_2]
def tX2_take : amT := fun as h K => match as with
  | [.ref b, .int p0] => ∃ (l : List Nat) (p : Nat), p0 = nI p ∧ bdAt h b ∧ amN0 ≤ b ∧ bdIs h.2.1 b l ∧ p < l.length ∧ ∀ m', bdIs m' b (l.eraseIdx p) → bdFr h.2.1 m' b → K none (amSI h m')
  | _ => False
/-! ReadingStages$Board.take(I)V -/
def kX2_take : Nat → Bool := fun pc => false
def rX2_take : List (Nat × amS) := [(2, 1, 0, 0, amTget 2 1), (7, 2, 0, 0, amTput 2 1), (11, 1, 0, 0, amTget 2 0), (18, 1, 0, 0, amTget 2 0), (23, 1, 0, 0, amTget 2 1), (28, 5, 0, 0, amTcpI)]
def eX2_take (ret : Option Value → amH → Nat → Nat → Prop) (F : amX) : Nat → amX := amWp cX2_take kX2_take (amLk rX2_take) none 0 0 ret F
def sX2_take (ret : Option Value → amH → Nat → Nat → Prop) (F : amX) : Nat → amX := amWs cX2_take kX2_take (amLk rX2_take) none 0 0 ret F
theorem wX2_take_0 {ret F n h} {v0 v1 st} : eX2_take ret F (n + 1) 0 [v0, v1] (st) h 0 0 = (amIsR v0 ∧ eX2_take ret F n 1 [v0, v1] (v0 :: st) h 0 0) := (amWp_dec rfl dX2_take_0 rfl).trans rfl
theorem uX2_take_0 {ret F n h} {v0 v1 st} : sX2_take ret F n 0 [v0, v1] (st) h 0 0 = (amIsR v0 ∧ eX2_take ret F n 1 [v0, v1] (v0 :: st) h 0 0) := (amWs_dec dX2_take_0 rfl).trans rfl
theorem wX2_take_1 {ret F n h} {v0 v1 st b} : eX2_take ret F (n + 1) 1 [v0, v1] (.ref b :: st) h 0 0 = (eX2_take ret F n 2 [v0, v1] (.ref b :: .ref b :: st) h 0 0) := (amWp_dec rfl dX2_take_1 rfl).trans (amTrue rfl)
theorem wX2_take_2 {ret F n h} {v0 v1 r0 a} : eX2_take ret F (n + 1) 2 [v0, v1] (.ref a :: r0 :: []) h 0 0 = (h.1 a = (0, 2) ∧ eX2_take ret F n 5 [v0, v1] (.int (h.2.1 a 1) :: r0 :: []) h 0 0) := (amWp_dec rfl dX2_take_2 rfl).trans (amS4 (Nat.le_of_ble_eq_true rfl) (Nat.le_of_ble_eq_true rfl) (Nat.le_of_ble_eq_true rfl) (Nat.le_of_ble_eq_true rfl))
theorem wX2_take_5 {ret F n h} {v0 v1 st} : eX2_take ret F (n + 1) 5 [v0, v1] (st) h 0 0 = (eX2_take ret F n 6 [v0, v1] (.int (nI 1) :: st) h 0 0) := (amWp_dec rfl dX2_take_5 rfl).trans rfl
theorem wX2_take_6 {ret F n h} {v0 v1 st y x} : eX2_take ret F (n + 1) 6 [v0, v1] (.int y :: .int x :: st) h 0 0 = (eX2_take ret F n 7 [v0, v1] (.int (x - y) :: st) h 0 0) := (amWp_dec rfl dX2_take_6 rfl).trans rfl
theorem wX2_take_7 {ret F n h} {v0 v1 x a} : eX2_take ret F (n + 1) 7 [v0, v1] (.int x :: .ref a :: []) h 0 0 = (h.1 a = (0, 2) ∧ amN0 ≤ a ∧ amFit .int (.int x) ∧ eX2_take ret F n 10 [v0, v1] ([]) (amSI h (amU h.2.1 a 1 x)) 0 0) := (amWp_dec rfl dX2_take_7 rfl).trans (amS4 (Nat.le_of_ble_eq_true rfl) (Nat.le_of_ble_eq_true rfl) (Nat.le_of_ble_eq_true rfl) (Nat.le_of_ble_eq_true rfl))
theorem wX2_take_10 {ret F n h} {v0 v1 st} : eX2_take ret F (n + 1) 10 [v0, v1] (st) h 0 0 = (amIsR v0 ∧ eX2_take ret F n 11 [v0, v1] (v0 :: st) h 0 0) := (amWp_dec rfl dX2_take_10 rfl).trans rfl
theorem wX2_take_11 {ret F n h} {v0 v1 a} : eX2_take ret F (n + 1) 11 [v0, v1] (.ref a :: []) h 0 0 = (h.1 a = (0, 2) ∧ eX2_take ret F n 14 [v0, v1] (va_rf (h.2.2.2.1 a 0) :: []) h 0 0) := (amWp_dec rfl dX2_take_11 rfl).trans (amS4 (Nat.le_of_ble_eq_true rfl) (Nat.le_of_ble_eq_true rfl) (Nat.le_of_ble_eq_true rfl) (Nat.le_of_ble_eq_true rfl))
theorem wX2_take_14 {ret F n h} {v0 st x} : eX2_take ret F (n + 1) 14 [v0, .int x] (st) h 0 0 = (eX2_take ret F n 15 [v0, .int x] (.int x :: st) h 0 0) := (amWp_dec rfl dX2_take_14 rfl).trans rfl
theorem wX2_take_15 {ret F n h} {v0 v1 st} : eX2_take ret F (n + 1) 15 [v0, v1] (st) h 0 0 = (eX2_take ret F n 16 [v0, v1] (.int (nI 1) :: st) h 0 0) := (amWp_dec rfl dX2_take_15 rfl).trans rfl
theorem wX2_take_16 {ret F n h} {v0 v1 st y x} : eX2_take ret F (n + 1) 16 [v0, v1] (.int y :: .int x :: st) h 0 0 = (eX2_take ret F n 17 [v0, v1] (.int (x + y) :: st) h 0 0) := (amWp_dec rfl dX2_take_16 rfl).trans rfl
theorem wX2_take_17 {ret F n h} {v0 v1 st} : eX2_take ret F (n + 1) 17 [v0, v1] (st) h 0 0 = (amIsR v0 ∧ eX2_take ret F n 18 [v0, v1] (v0 :: st) h 0 0) := (amWp_dec rfl dX2_take_17 rfl).trans rfl
theorem wX2_take_18 {ret F n h} {v0 v1 r0 r1 a} : eX2_take ret F (n + 1) 18 [v0, v1] (.ref a :: r0 :: r1 :: []) h 0 0 = (h.1 a = (0, 2) ∧ eX2_take ret F n 21 [v0, v1] (va_rf (h.2.2.2.1 a 0) :: r0 :: r1 :: []) h 0 0) := (amWp_dec rfl dX2_take_18 rfl).trans (amS4 (Nat.le_of_ble_eq_true rfl) (Nat.le_of_ble_eq_true rfl) (Nat.le_of_ble_eq_true rfl) (Nat.le_of_ble_eq_true rfl))
theorem wX2_take_21 {ret F n h} {v0 st x} : eX2_take ret F (n + 1) 21 [v0, .int x] (st) h 0 0 = (eX2_take ret F n 22 [v0, .int x] (.int x :: st) h 0 0) := (amWp_dec rfl dX2_take_21 rfl).trans rfl
theorem wX2_take_22 {ret F n h} {v0 v1 st} : eX2_take ret F (n + 1) 22 [v0, v1] (st) h 0 0 = (amIsR v0 ∧ eX2_take ret F n 23 [v0, v1] (v0 :: st) h 0 0) := (amWp_dec rfl dX2_take_22 rfl).trans rfl
theorem wX2_take_23 {ret F n h} {v0 v1 r0 r1 r2 r3 a} : eX2_take ret F (n + 1) 23 [v0, v1] (.ref a :: r0 :: r1 :: r2 :: r3 :: []) h 0 0 = (h.1 a = (0, 2) ∧ eX2_take ret F n 26 [v0, v1] (.int (h.2.1 a 1) :: r0 :: r1 :: r2 :: r3 :: []) h 0 0) := (amWp_dec rfl dX2_take_23 rfl).trans (amS4 (Nat.le_of_ble_eq_true rfl) (Nat.le_of_ble_eq_true rfl) (Nat.le_of_ble_eq_true rfl) (Nat.le_of_ble_eq_true rfl))
theorem wX2_take_26 {ret F n h} {v0 st x} : eX2_take ret F (n + 1) 26 [v0, .int x] (st) h 0 0 = (eX2_take ret F n 27 [v0, .int x] (.int x :: st) h 0 0) := (amWp_dec rfl dX2_take_26 rfl).trans rfl
theorem wX2_take_27 {ret F n h} {v0 v1 st y x} : eX2_take ret F (n + 1) 27 [v0, v1] (.int y :: .int x :: st) h 0 0 = (eX2_take ret F n 28 [v0, v1] (.int (x - y) :: st) h 0 0) := (amWp_dec rfl dX2_take_27 rfl).trans rfl
theorem wX2_take_28 {ret F n h} {v0 v1 x4 x3 x2 x1 x0} : eX2_take ret F (n + 1) 28 [v0, v1] (.int x4 :: .int x3 :: .ref x2 :: .int x1 :: .ref x0 :: []) h 0 0 = (amTcpI [.ref x0, .int x1, .ref x2, .int x3, .int x4] h (fun v h => eX2_take ret F n 31 [v0, v1] (v.toList ++ ([])) h 0 0)) := (amWp_dec rfl dX2_take_28 rfl).trans (amS4 (Nat.le_of_ble_eq_true rfl) (Nat.le_of_ble_eq_true rfl) (Nat.le_of_ble_eq_true rfl) (Nat.le_of_ble_eq_true rfl))
theorem wX2_take_31 {ret F n h} {v0 v1} : eX2_take ret F (n + 1) 31 [v0, v1] ([]) h 0 0 = (ret none h 0 0) := (amWp_dec rfl dX2_take_31 rfl).trans (amTrue rfl)
theorem evX2_take (l : Launch) (G : amG) : ∀ pc S i sz, amLk rX2_take pc = some S → decode cX2_take pc = .ok (i, sz) → amSiteP pc G l yX2_take.cls yX2_take.name yX2_take.desc (amRm 1 0 0) i sz S.1 S.2.1 S.2.2.1 S.2.2.2 := amLk_ok (by
  refine List.forall_mem_cons.mpr ⟨⟨_, _, dX2_take_2, amSite.P (amSiteGet ⟨_, rfl, by decide, Or.inl q136⟩)⟩, ?_⟩
  refine List.forall_mem_cons.mpr ⟨⟨_, _, dX2_take_7, amSite.P (amSitePut ⟨_, rfl, by decide, Or.inl q136⟩ (fun q h => by cases h; rfl))⟩, ?_⟩
  refine List.forall_mem_cons.mpr ⟨⟨_, _, dX2_take_11, amSite.P (amSiteGet ⟨_, rfl, by decide, Or.inl q135⟩)⟩, ?_⟩
  refine List.forall_mem_cons.mpr ⟨⟨_, _, dX2_take_18, amSite.P (amSiteGet ⟨_, rfl, by decide, Or.inl q135⟩)⟩, ?_⟩
  refine List.forall_mem_cons.mpr ⟨⟨_, _, dX2_take_23, amSite.P (amSiteGet ⟨_, rfl, by decide, Or.inl q136⟩)⟩, ?_⟩
  refine List.forall_mem_cons.mpr ⟨⟨_, _, dX2_take_28, amSite.P (amSiteCpI rfl (by decide) q471 q473 q472 q95)⟩, ?_⟩
  exact fun _ h => absurd h List.not_mem_nil)
theorem goX2_take {ret F} (hF : amCld cX2_take kX2_take (amLk rX2_take) none 0 0 ret F) (n : Nat) {pc ls st h k z} (q : sX2_take ret F n pc ls st h k z) : F pc ls st h k z := hF.1 n pc ls st h k z q
theorem metX2_take (l : Launch) (G : amG) : amMet l G yX2_take (ws_ yX2_take cX2_take 2 none) 1 0 0 tX2_take := by
  refine amMet_of (cut := kX2_take) (by decide +kernel) (evX2_take l G) ?_
  intro as h K hT
  match as, hT with
  | [.ref b, .int p0], ⟨l, p, e1, ⟨h1, h2, h3⟩, h4, ⟨i1, i2, i3, i4⟩, h5, hK⟩ =>
  refine ⟨Nat.le_of_ble_eq_true rfl, fun F hF => ?_⟩
  show F 0 [.ref b, .int p0] [] h 0 0
  obtain ⟨b, rfl⟩ : ∃ i : Nat, i = b := ⟨_, rfl⟩
  subst e1
  have h9 : amN0 ≤ b + 1 := by omega
  refine goX2_take hF 40 ?_
  simp (disch := omega) only [wX2_take_0, uX2_take_0, wX2_take_1, wX2_take_2, wX2_take_5, wX2_take_6, wX2_take_7, wX2_take_10, wX2_take_11, wX2_take_14, wX2_take_15, wX2_take_16, wX2_take_17, wX2_take_18, wX2_take_21, wX2_take_22, wX2_take_23, wX2_take_26, wX2_take_27, wX2_take_28, wX2_take_31, amSI_1, amSI_2, amSI_3, amSI_s, amU_at, amIsR_ref, amIsR_null, amIsR_rf, amRf_some, amRf_none, amClr_int, amClr_ref, amClr_null, amClr_long, amClr_ra, amClr_rf, amFit_int, amFit_oref, amFit_aref, amFit_onull, amFit_anull, amOptSome, amOptNone, List.cons_append, List.nil_append, true_and, and_true, true_implies, not_true_eq_false, not_false_eq_true, false_implies, and_self, Nat.add_zero, Nat.zero_add, ne_eq, Prod.mk.injEq, amC01_0, amC01_1, amC01_nb, amNb0, amNb1, amTcpI_d, Nat.reduceLeDiff, Nat.reduceAdd, Nat.reduceSub, Nat.reduceEqDiff, Nat.le_refl, amN0le, h1, h2, h3, h4, h9, i3, amCl_nI, amNotPosI, amSub, amAdd, amVI]
  refine ⟨by omega, by omega, amRet.of (by decide) (by decide) (hK _ ⟨?_, ?_, ?_, ?_⟩ ?_)⟩
  · rw [List.length_eraseIdx_of_lt h5]; omega
  · intro y hy
    exact i2 y (List.mem_of_mem_eraseIdx hy)
  · rw [List.length_eraseIdx_of_lt h5]
    simp [va_up, amU]
  · intro i hi
    rw [List.length_eraseIdx_of_lt h5] at hi
    rw [era_getD]
    simp only [va_up, if_pos, va_cpy, amU_ne (Nat.succ_ne_self b)]
    by_cases q2 : i < p
    · rw [if_neg (by omega), if_pos q2]
      exact i4 i (by omega)
    · rw [if_pos (by omega), if_neg q2, i4 _ (by omega)]
      congr 2
      omega
  · intro i hi
    simp (disch := omega) only [amU_at, amU_ne, amU_nj, amU_neR, up_ne, up_at, amSI_2]
def tX7_number : amT := fun as h K => match as with
  | [.ref b] => ∃ l : List Nat, bdAt h b ∧ bdIs h.2.1 b l ∧ K (some (.int (nI (numL l)))) h
  | _ => False
/-! ReadingStages$Shelf.number()I -/
def kX7_number : Nat → Bool := fun pc => pc == 4
def rX7_number : List (Nat × amS) := [(6, 1, 0, 0, (amRecv 2 tX2_size)), (20, 2, 0, 0, (amRecv 2 tX2_at))]
def eX7_number (ret : Option Value → amH → Nat → Nat → Prop) (F : amX) : Nat → amX := amWp cX7_number kX7_number (amLk rX7_number) (some .int) 0 0 ret F
def sX7_number (ret : Option Value → amH → Nat → Nat → Prop) (F : amX) : Nat → amX := amWs cX7_number kX7_number (amLk rX7_number) (some .int) 0 0 ret F
theorem wX7_number_0 {ret F n h} {v0 v1 v2 st} : eX7_number ret F (n + 1) 0 [v0, v1, v2] (st) h 0 0 = (eX7_number ret F n 1 [v0, v1, v2] (.int (nI 0) :: st) h 0 0) := (amWp_dec rfl dX7_number_0 rfl).trans rfl
theorem uX7_number_0 {ret F n h} {v0 v1 v2 st} : sX7_number ret F n 0 [v0, v1, v2] (st) h 0 0 = (eX7_number ret F n 1 [v0, v1, v2] (.int (nI 0) :: st) h 0 0) := (amWs_dec dX7_number_0 rfl).trans rfl
theorem wX7_number_1 {ret F n h} {v0 v1 v2 st x} : eX7_number ret F (n + 1) 1 [v0, v1, v2] (.int x :: st) h 0 0 = (eX7_number ret F n 2 [amClr v0, .int x, v2] (st) h 0 0) := (amWp_dec rfl dX7_number_1 rfl).trans (amTrue (Nat.le_of_ble_eq_true rfl))
theorem wX7_number_2 {ret F n h} {v0 v1 v2 st} : eX7_number ret F (n + 1) 2 [v0, v1, v2] (st) h 0 0 = (eX7_number ret F n 3 [v0, v1, v2] (.int (nI 0) :: st) h 0 0) := (amWp_dec rfl dX7_number_2 rfl).trans rfl
theorem wX7_number_3 {ret F n h} {v0 v1 v2 st x} : eX7_number ret F (n + 1) 3 [v0, v1, v2] (.int x :: st) h 0 0 = (eX7_number ret F n 4 [v0, amClr v1, .int x] (st) h 0 0) := (amWp_dec rfl dX7_number_3 rfl).trans (amTrue (Nat.le_of_ble_eq_true rfl))
theorem wX7_number_4 {ret F n ls st h k z} : eX7_number ret F (n + 1) 4 ls st h k z = F 4 ls st h k z := amWp_cut rfl
theorem uX7_number_4 {ret F n h} {v0 v1 st x} : sX7_number ret F n 4 [v0, v1, .int x] (st) h 0 0 = (eX7_number ret F n 5 [v0, v1, .int x] (.int x :: st) h 0 0) := (amWs_dec dX7_number_4 rfl).trans rfl
theorem wX7_number_5 {ret F n h} {v0 v1 v2 st} : eX7_number ret F (n + 1) 5 [v0, v1, v2] (st) h 0 0 = (amIsR v0 ∧ eX7_number ret F n 6 [v0, v1, v2] (v0 :: st) h 0 0) := (amWp_dec rfl dX7_number_5 rfl).trans rfl
theorem wX7_number_6 {ret F n h} {v0 v1 v2 x0 r0} : eX7_number ret F (n + 1) 6 [v0, v1, v2] (.ref x0 :: r0 :: []) h 0 0 = (h.1 x0 = (0, 2) ∧ tX2_size [.ref x0] h (fun v h => eX7_number ret F n 11 [v0, v1, v2] (v.toList ++ (r0 :: [])) h 0 0)) := (amWp_dec rfl dX7_number_6 rfl).trans (amS4 (Nat.le_of_ble_eq_true rfl) (Nat.le_of_ble_eq_true rfl) (Nat.le_of_ble_eq_true rfl) (Nat.le_of_ble_eq_true rfl))
theorem wX7_number_11 {ret F n h} {v0 v1 v2 st y x} : eX7_number ret F (n + 1) 11 [v0, v1, v2] (.int y :: .int x :: st) h 0 0 = ((y ≤ x → eX7_number ret F n 33 [v0, v1, v2] (st) h 0 0) ∧ (¬ y ≤ x → eX7_number ret F n 14 [v0, v1, v2] (st) h 0 0)) := (amWp_dec rfl dX7_number_11 rfl).trans rfl
theorem wX7_number_14 {ret F n h} {v0 v1 v2 st} : eX7_number ret F (n + 1) 14 [v0, v1, v2] (st) h 0 0 = (eX7_number ret F n 16 [v0, v1, v2] (.int (nI 10) :: st) h 0 0) := (amWp_dec rfl dX7_number_14 rfl).trans rfl
theorem wX7_number_16 {ret F n h} {v0 v2 st x} : eX7_number ret F (n + 1) 16 [v0, .int x, v2] (st) h 0 0 = (eX7_number ret F n 17 [v0, .int x, v2] (.int x :: st) h 0 0) := (amWp_dec rfl dX7_number_16 rfl).trans rfl
theorem wX7_number_17 {ret F n h} {v0 v1 v2 st y x} : eX7_number ret F (n + 1) 17 [v0, v1, v2] (.int y :: .int x :: st) h 0 0 = (eX7_number ret F n 18 [v0, v1, v2] (.int (x * y) :: st) h 0 0) := (amWp_dec rfl dX7_number_17 rfl).trans rfl
theorem wX7_number_18 {ret F n h} {v0 v1 v2 st} : eX7_number ret F (n + 1) 18 [v0, v1, v2] (st) h 0 0 = (amIsR v0 ∧ eX7_number ret F n 19 [v0, v1, v2] (v0 :: st) h 0 0) := (amWp_dec rfl dX7_number_18 rfl).trans rfl
theorem wX7_number_19 {ret F n h} {v0 v1 st x} : eX7_number ret F (n + 1) 19 [v0, v1, .int x] (st) h 0 0 = (eX7_number ret F n 20 [v0, v1, .int x] (.int x :: st) h 0 0) := (amWp_dec rfl dX7_number_19 rfl).trans rfl
theorem wX7_number_20 {ret F n h} {v0 v1 v2 x1 x0 r0} : eX7_number ret F (n + 1) 20 [v0, v1, v2] (.int x1 :: .ref x0 :: r0 :: []) h 0 0 = (h.1 x0 = (0, 2) ∧ tX2_at [.ref x0, .int x1] h (fun v h => eX7_number ret F n 25 [v0, v1, v2] (v.toList ++ (r0 :: [])) h 0 0)) := (amWp_dec rfl dX7_number_20 rfl).trans (amS4 (Nat.le_of_ble_eq_true rfl) (Nat.le_of_ble_eq_true rfl) (Nat.le_of_ble_eq_true rfl) (Nat.le_of_ble_eq_true rfl))
theorem wX7_number_25 {ret F n h} {v0 v1 v2 st y x} : eX7_number ret F (n + 1) 25 [v0, v1, v2] (.int y :: .int x :: st) h 0 0 = (eX7_number ret F n 26 [v0, v1, v2] (.int (x + y) :: st) h 0 0) := (amWp_dec rfl dX7_number_25 rfl).trans rfl
theorem wX7_number_26 {ret F n h} {v0 v1 v2 st x} : eX7_number ret F (n + 1) 26 [v0, v1, v2] (.int x :: st) h 0 0 = (eX7_number ret F n 27 [amClr v0, .int x, v2] (st) h 0 0) := (amWp_dec rfl dX7_number_26 rfl).trans (amTrue (Nat.le_of_ble_eq_true rfl))
theorem wX7_number_27 {ret F n h} {v0 v1 st x} : eX7_number ret F (n + 1) 27 [v0, v1, .int x] (st) h 0 0 = (eX7_number ret F n 30 [v0, amClr v1, .int (x + nI 1)] (st) h 0 0) := (amWp_dec rfl dX7_number_27 rfl).trans rfl
theorem wX7_number_30 {ret F n h} {v0 v1 v2 st} : eX7_number ret F (n + 1) 30 [v0, v1, v2] (st) h 0 0 = (eX7_number ret F n 4 [v0, v1, v2] (st) h 0 0) := (amWp_dec rfl dX7_number_30 rfl).trans rfl
theorem wX7_number_33 {ret F n h} {v0 v2 st x} : eX7_number ret F (n + 1) 33 [v0, .int x, v2] (st) h 0 0 = (eX7_number ret F n 34 [v0, .int x, v2] (.int x :: st) h 0 0) := (amWp_dec rfl dX7_number_33 rfl).trans rfl
theorem wX7_number_34 {ret F n h} {v0 v1 v2 x} : eX7_number ret F (n + 1) 34 [v0, v1, v2] ([.int x]) h 0 0 = (ret (some (.int x)) h 0 0) := (amWp_dec rfl dX7_number_34 rfl).trans (amTrue ⟨_, rfl, rfl⟩)
theorem evX7_number (l : Launch) (G : amG) : ∀ pc S i sz, amLk rX7_number pc = some S → decode cX7_number pc = .ok (i, sz) → amSiteP pc G l yX7_number.cls yX7_number.name yX7_number.desc (amRm 2 0 0) i sz S.1 S.2.1 S.2.2.1 S.2.2.2 := amLk_ok (by
  refine List.forall_mem_cons.mpr ⟨⟨_, _, dX7_number_6, amSite.P (amSiteF (C := RX2) (x := ⟨"ReadingStages$Shelf", "size", "()I"⟩) (metX2_size l G) rfl (by decide) (by decide) (lw_app (by intro w hw; simp only [List.mem_cons, List.not_mem_nil, or_false] at hw; rcases hw with e | e | e | e <;> rw [e] <;> first | exact q406 | exact q409 | exact q411 | exact q88) (lw_meth q413)) (List.mem_of_getElem? (i := 0) rfl) ⟨_, rfl, rfl⟩ ⟨by decide +kernel, by decide +kernel, by decide +kernel⟩)⟩, ?_⟩
  refine List.forall_mem_cons.mpr ⟨⟨_, _, dX7_number_20, amSite.P (amSiteF (C := RX2) (x := ⟨"ReadingStages$Shelf", "at", "(I)I"⟩) (metX2_at l G) rfl (by decide) (by decide) (lw_app (by intro w hw; simp only [List.mem_cons, List.not_mem_nil, or_false] at hw; rcases hw with e | e | e | e <;> rw [e] <;> first | exact q415 | exact q418 | exact q420 | exact q88) (lw_meth q422)) (List.mem_of_getElem? (i := 1) rfl) ⟨_, rfl, rfl⟩ ⟨by decide +kernel, by decide +kernel, by decide +kernel⟩)⟩, ?_⟩
  exact fun _ h => absurd h List.not_mem_nil)
theorem goX7_number {ret F} (hF : amCld cX7_number kX7_number (amLk rX7_number) (some .int) 0 0 ret F) (n : Nat) {pc ls st h k z} (q : sX7_number ret F n pc ls st h k z) : F pc ls st h k z := hF.1 n pc ls st h k z q
theorem metX7_number (l : Launch) (G : amG) : amMet l G yX7_number (ws_ yX7_number cX7_number 3 (some .int)) 2 0 0 tX7_number := by
  refine amMet_of (cut := kX7_number) (by decide +kernel) (evX7_number l G) ?_
  intro as h K hT
  match as, hT with
  | [.ref b], ⟨l, ⟨h1, h2, h3⟩, ⟨i1, i2, i3, i4⟩, hK⟩ =>
  refine ⟨Nat.le_of_ble_eq_true rfl, fun F hF => ?_⟩
  show F 0 [.ref b, .retAddr 0, .retAddr 0] [] h 0 0
  obtain ⟨b, rfl⟩ : ∃ i : Nat, i = b := ⟨_, rfl⟩
  have hb : bdAt h b := ⟨h1, h2, h3⟩
  have loop : ∀ t p, l.length - p ≤ t → p ≤ l.length → F 4 [.ref b, .int (nI (numL (l.take p))), .int (nI p)] [] h 0 0 := by
    intro t
    induction t with
    | zero =>
      intro p h4 h5
      have q : (l.length ≤ p) = True := eq_true (by omega)
      have e : l.take p = l := List.take_of_length_le (by omega)
      rw [e]
      refine goX7_number hF 30 ?_
      simp (disch := omega) only [wX7_number_0, uX7_number_0, wX7_number_1, wX7_number_2, wX7_number_3, wX7_number_4, uX7_number_4, wX7_number_5, wX7_number_6, wX7_number_11, wX7_number_14, wX7_number_16, wX7_number_17, wX7_number_18, wX7_number_19, wX7_number_20, wX7_number_25, wX7_number_26, wX7_number_27, wX7_number_30, wX7_number_33, wX7_number_34, amSI_1, amSI_2, amSI_3, amSI_s, amU_at, amIsR_ref, amIsR_null, amIsR_rf, amRf_some, amRf_none, amClr_int, amClr_ref, amClr_null, amClr_long, amClr_ra, amClr_rf, amFit_int, amFit_oref, amFit_aref, amFit_onull, amFit_anull, amOptSome, amOptNone, List.cons_append, List.nil_append, true_and, and_true, true_implies, not_true_eq_false, not_false_eq_true, false_implies, and_self, Nat.add_zero, Nat.zero_add, ne_eq, Prod.mk.injEq, amC01_0, amC01_1, amC01_nb, amNb0, amNb1, amTcpI_d, Nat.reduceLeDiff, Nat.reduceAdd, Nat.reduceSub, Nat.reduceEqDiff, Nat.le_refl, amN0le, tX2_size_d, h1, i3, amLeI, q]
      exact amRet.of (by decide) (by decide) hK
    | succ t ih =>
      intro p h4 h5
      by_cases q0 : l.length ≤ p
      · have q : (l.length ≤ p) = True := eq_true q0
        have e : l.take p = l := List.take_of_length_le q0
        rw [e]
        refine goX7_number hF 30 ?_
        simp (disch := omega) only [wX7_number_0, uX7_number_0, wX7_number_1, wX7_number_2, wX7_number_3, wX7_number_4, uX7_number_4, wX7_number_5, wX7_number_6, wX7_number_11, wX7_number_14, wX7_number_16, wX7_number_17, wX7_number_18, wX7_number_19, wX7_number_20, wX7_number_25, wX7_number_26, wX7_number_27, wX7_number_30, wX7_number_33, wX7_number_34, amSI_1, amSI_2, amSI_3, amSI_s, amU_at, amIsR_ref, amIsR_null, amIsR_rf, amRf_some, amRf_none, amClr_int, amClr_ref, amClr_null, amClr_long, amClr_ra, amClr_rf, amFit_int, amFit_oref, amFit_aref, amFit_onull, amFit_anull, amOptSome, amOptNone, List.cons_append, List.nil_append, true_and, and_true, true_implies, not_true_eq_false, not_false_eq_true, false_implies, and_self, Nat.add_zero, Nat.zero_add, ne_eq, Prod.mk.injEq, amC01_0, amC01_1, amC01_nb, amNb0, amNb1, amTcpI_d, Nat.reduceLeDiff, Nat.reduceAdd, Nat.reduceSub, Nat.reduceEqDiff, Nat.le_refl, amN0le, tX2_size_d, h1, i3, amLeI, q]
        exact amRet.of (by decide) (by decide) hK
      · have q : (l.length ≤ p) = False := eq_false q0
        refine goX7_number hF 30 ?_
        simp (disch := omega) only [wX7_number_0, uX7_number_0, wX7_number_1, wX7_number_2, wX7_number_3, wX7_number_4, uX7_number_4, wX7_number_5, wX7_number_6, wX7_number_11, wX7_number_14, wX7_number_16, wX7_number_17, wX7_number_18, wX7_number_19, wX7_number_20, wX7_number_25, wX7_number_26, wX7_number_27, wX7_number_30, wX7_number_33, wX7_number_34, amSI_1, amSI_2, amSI_3, amSI_s, amU_at, amIsR_ref, amIsR_null, amIsR_rf, amRf_some, amRf_none, amClr_int, amClr_ref, amClr_null, amClr_long, amClr_ra, amClr_rf, amFit_int, amFit_oref, amFit_aref, amFit_onull, amFit_anull, amOptSome, amOptNone, List.cons_append, List.nil_append, true_and, and_true, true_implies, not_true_eq_false, not_false_eq_true, false_implies, and_self, Nat.add_zero, Nat.zero_add, ne_eq, Prod.mk.injEq, amC01_0, amC01_1, amC01_nb, amNb0, amNb1, amTcpI_d, Nat.reduceLeDiff, Nat.reduceAdd, Nat.reduceSub, Nat.reduceEqDiff, Nat.le_refl, amN0le, tX2_size_d, tX2_at_d, hb, h1, i3, amLeI, q, amVI, amCl_nI, i4 p (by omega), amMul, amAdd]
        rw [← numL_take (by omega)]
        exact ih (p + 1) (by omega) (by omega)
  refine goX7_number hF 10 ?_
  simp (disch := omega) only [wX7_number_0, uX7_number_0, wX7_number_1, wX7_number_2, wX7_number_3, wX7_number_4, uX7_number_4, wX7_number_5, wX7_number_6, wX7_number_11, wX7_number_14, wX7_number_16, wX7_number_17, wX7_number_18, wX7_number_19, wX7_number_20, wX7_number_25, wX7_number_26, wX7_number_27, wX7_number_30, wX7_number_33, wX7_number_34, amSI_1, amSI_2, amSI_3, amSI_s, amU_at, amIsR_ref, amIsR_null, amIsR_rf, amRf_some, amRf_none, amClr_int, amClr_ref, amClr_null, amClr_long, amClr_ra, amClr_rf, amFit_int, amFit_oref, amFit_aref, amFit_onull, amFit_anull, amOptSome, amOptNone, List.cons_append, List.nil_append, true_and, and_true, true_implies, not_true_eq_false, not_false_eq_true, false_implies, and_self, Nat.add_zero, Nat.zero_add, ne_eq, Prod.mk.injEq, amC01_0, amC01_1, amC01_nb, amNb0, amNb1, amTcpI_d, Nat.reduceLeDiff, Nat.reduceAdd, Nat.reduceSub, Nat.reduceEqDiff, Nat.le_refl, amN0le]
  exact loop l.length 0 (by omega) (by omega)
theorem tX7_number_d {b : Nat} {h : amH} {K : Option Value → amH → Prop} : tX7_number [.ref b] h K = ∃ l : List Nat, bdAt h b ∧ bdIs h.2.1 b l ∧ K (some (.int (nI (numL l)))) h := rfl
def tX7_find : amT := fun as h K => match as with
  | [.ref b, .int x0] => ∃ (l : List Nat) (x : Nat), x0 = nI x ∧ bdAt h b ∧ bdIs h.2.1 b l ∧ x ∈ l ∧ l.Nodup ∧ K (some (.int (nI (l.idxOf x)))) h
  | _ => False
/-! ReadingStages$Shelf.find(I)I -/
def kX7_find : Nat → Bool := fun pc => pc == 5
def rX7_find : List (Nat × amS) := [(7, 1, 0, 0, (amRecv 2 tX2_size)), (17, 2, 0, 0, (amRecv 2 tX2_at))]
def eX7_find (ret : Option Value → amH → Nat → Nat → Prop) (F : amX) : Nat → amX := amWp cX7_find kX7_find (amLk rX7_find) (some .int) 0 0 ret F
def sX7_find (ret : Option Value → amH → Nat → Nat → Prop) (F : amX) : Nat → amX := amWs cX7_find kX7_find (amLk rX7_find) (some .int) 0 0 ret F
theorem wX7_find_0 {ret F n h} {v0 v1 v2 v3 st} : eX7_find ret F (n + 1) 0 [v0, v1, v2, v3] (st) h 0 0 = (eX7_find ret F n 2 [v0, v1, v2, v3] (.int (-4) :: st) h 0 0) := (amWp_dec rfl dX7_find_0 rfl).trans rfl
theorem uX7_find_0 {ret F n h} {v0 v1 v2 v3 st} : sX7_find ret F n 0 [v0, v1, v2, v3] (st) h 0 0 = (eX7_find ret F n 2 [v0, v1, v2, v3] (.int (-4) :: st) h 0 0) := (amWs_dec dX7_find_0 rfl).trans rfl
theorem wX7_find_2 {ret F n h} {v0 v1 v2 v3 st x} : eX7_find ret F (n + 1) 2 [v0, v1, v2, v3] (.int x :: st) h 0 0 = (eX7_find ret F n 3 [v0, amClr v1, .int x, v3] (st) h 0 0) := (amWp_dec rfl dX7_find_2 rfl).trans (amTrue (Nat.le_of_ble_eq_true rfl))
theorem wX7_find_3 {ret F n h} {v0 v1 v2 v3 st} : eX7_find ret F (n + 1) 3 [v0, v1, v2, v3] (st) h 0 0 = (eX7_find ret F n 4 [v0, v1, v2, v3] (.int (nI 0) :: st) h 0 0) := (amWp_dec rfl dX7_find_3 rfl).trans rfl
theorem wX7_find_4 {ret F n h} {v0 v1 v2 v3 st x} : eX7_find ret F (n + 1) 4 [v0, v1, v2, v3] (.int x :: st) h 0 0 = (eX7_find ret F n 5 [v0, v1, amClr v2, .int x] (st) h 0 0) := (amWp_dec rfl dX7_find_4 rfl).trans (amTrue (Nat.le_of_ble_eq_true rfl))
theorem wX7_find_5 {ret F n ls st h k z} : eX7_find ret F (n + 1) 5 ls st h k z = F 5 ls st h k z := amWp_cut rfl
theorem uX7_find_5 {ret F n h} {v0 v1 v2 st x} : sX7_find ret F n 5 [v0, v1, v2, .int x] (st) h 0 0 = (eX7_find ret F n 6 [v0, v1, v2, .int x] (.int x :: st) h 0 0) := (amWs_dec dX7_find_5 rfl).trans rfl
theorem wX7_find_6 {ret F n h} {v0 v1 v2 v3 st} : eX7_find ret F (n + 1) 6 [v0, v1, v2, v3] (st) h 0 0 = (amIsR v0 ∧ eX7_find ret F n 7 [v0, v1, v2, v3] (v0 :: st) h 0 0) := (amWp_dec rfl dX7_find_6 rfl).trans rfl
theorem wX7_find_7 {ret F n h} {v0 v1 v2 v3 x0 r0} : eX7_find ret F (n + 1) 7 [v0, v1, v2, v3] (.ref x0 :: r0 :: []) h 0 0 = (h.1 x0 = (0, 2) ∧ tX2_size [.ref x0] h (fun v h => eX7_find ret F n 12 [v0, v1, v2, v3] (v.toList ++ (r0 :: [])) h 0 0)) := (amWp_dec rfl dX7_find_7 rfl).trans (amS4 (Nat.le_of_ble_eq_true rfl) (Nat.le_of_ble_eq_true rfl) (Nat.le_of_ble_eq_true rfl) (Nat.le_of_ble_eq_true rfl))
theorem wX7_find_12 {ret F n h} {v0 v1 v2 v3 st y x} : eX7_find ret F (n + 1) 12 [v0, v1, v2, v3] (.int y :: .int x :: st) h 0 0 = ((y ≤ x → eX7_find ret F n 38 [v0, v1, v2, v3] (st) h 0 0) ∧ (¬ y ≤ x → eX7_find ret F n 15 [v0, v1, v2, v3] (st) h 0 0)) := (amWp_dec rfl dX7_find_12 rfl).trans rfl
theorem wX7_find_15 {ret F n h} {v0 v1 v2 v3 st} : eX7_find ret F (n + 1) 15 [v0, v1, v2, v3] (st) h 0 0 = (amIsR v0 ∧ eX7_find ret F n 16 [v0, v1, v2, v3] (v0 :: st) h 0 0) := (amWp_dec rfl dX7_find_15 rfl).trans rfl
theorem wX7_find_16 {ret F n h} {v0 v1 v2 st x} : eX7_find ret F (n + 1) 16 [v0, v1, v2, .int x] (st) h 0 0 = (eX7_find ret F n 17 [v0, v1, v2, .int x] (.int x :: st) h 0 0) := (amWp_dec rfl dX7_find_16 rfl).trans rfl
theorem wX7_find_17 {ret F n h} {v0 v1 v2 v3 x1 x0} : eX7_find ret F (n + 1) 17 [v0, v1, v2, v3] (.int x1 :: .ref x0 :: []) h 0 0 = (h.1 x0 = (0, 2) ∧ tX2_at [.ref x0, .int x1] h (fun v h => eX7_find ret F n 22 [v0, v1, v2, v3] (v.toList ++ ([])) h 0 0)) := (amWp_dec rfl dX7_find_17 rfl).trans (amS4 (Nat.le_of_ble_eq_true rfl) (Nat.le_of_ble_eq_true rfl) (Nat.le_of_ble_eq_true rfl) (Nat.le_of_ble_eq_true rfl))
theorem wX7_find_22 {ret F n h} {v0 v2 v3 st x} : eX7_find ret F (n + 1) 22 [v0, .int x, v2, v3] (st) h 0 0 = (eX7_find ret F n 23 [v0, .int x, v2, v3] (.int x :: st) h 0 0) := (amWp_dec rfl dX7_find_22 rfl).trans rfl
theorem wX7_find_23 {ret F n h} {v0 v1 v2 v3 st y x} : eX7_find ret F (n + 1) 23 [v0, v1, v2, v3] (.int y :: .int x :: st) h 0 0 = ((¬ x = y → eX7_find ret F n 30 [v0, v1, v2, v3] (st) h 0 0) ∧ (x = y → eX7_find ret F n 26 [v0, v1, v2, v3] (st) h 0 0)) := (amWp_dec rfl dX7_find_23 rfl).trans rfl
theorem wX7_find_26 {ret F n h} {v0 v1 v2 st x} : eX7_find ret F (n + 1) 26 [v0, v1, v2, .int x] (st) h 0 0 = (eX7_find ret F n 27 [v0, v1, v2, .int x] (.int x :: st) h 0 0) := (amWp_dec rfl dX7_find_26 rfl).trans rfl
theorem wX7_find_27 {ret F n h} {v0 v1 v2 v3 st} : eX7_find ret F (n + 1) 27 [v0, v1, v2, v3] (st) h 0 0 = (eX7_find ret F n 31 [v0, v1, v2, v3] (st) h 0 0) := (amWp_dec rfl dX7_find_27 rfl).trans rfl
theorem wX7_find_30 {ret F n h} {v0 v1 v3 st x} : eX7_find ret F (n + 1) 30 [v0, v1, .int x, v3] (st) h 0 0 = (eX7_find ret F n 31 [v0, v1, .int x, v3] (.int x :: st) h 0 0) := (amWp_dec rfl dX7_find_30 rfl).trans rfl
theorem wX7_find_31 {ret F n h} {v0 v1 v2 v3 st x} : eX7_find ret F (n + 1) 31 [v0, v1, v2, v3] (.int x :: st) h 0 0 = (eX7_find ret F n 32 [v0, amClr v1, .int x, v3] (st) h 0 0) := (amWp_dec rfl dX7_find_31 rfl).trans (amTrue (Nat.le_of_ble_eq_true rfl))
theorem wX7_find_32 {ret F n h} {v0 v1 v2 st x} : eX7_find ret F (n + 1) 32 [v0, v1, v2, .int x] (st) h 0 0 = (eX7_find ret F n 35 [v0, v1, amClr v2, .int (x + nI 1)] (st) h 0 0) := (amWp_dec rfl dX7_find_32 rfl).trans rfl
theorem wX7_find_35 {ret F n h} {v0 v1 v2 v3 st} : eX7_find ret F (n + 1) 35 [v0, v1, v2, v3] (st) h 0 0 = (eX7_find ret F n 5 [v0, v1, v2, v3] (st) h 0 0) := (amWp_dec rfl dX7_find_35 rfl).trans rfl
theorem wX7_find_38 {ret F n h} {v0 v1 v3 st x} : eX7_find ret F (n + 1) 38 [v0, v1, .int x, v3] (st) h 0 0 = (eX7_find ret F n 39 [v0, v1, .int x, v3] (.int x :: st) h 0 0) := (amWp_dec rfl dX7_find_38 rfl).trans rfl
theorem wX7_find_39 {ret F n h} {v0 v1 v2 v3 x} : eX7_find ret F (n + 1) 39 [v0, v1, v2, v3] ([.int x]) h 0 0 = (ret (some (.int x)) h 0 0) := (amWp_dec rfl dX7_find_39 rfl).trans (amTrue ⟨_, rfl, rfl⟩)
theorem evX7_find (l : Launch) (G : amG) : ∀ pc S i sz, amLk rX7_find pc = some S → decode cX7_find pc = .ok (i, sz) → amSiteP pc G l yX7_find.cls yX7_find.name yX7_find.desc (amRm 2 0 0) i sz S.1 S.2.1 S.2.2.1 S.2.2.2 := amLk_ok (by
  refine List.forall_mem_cons.mpr ⟨⟨_, _, dX7_find_7, amSite.P (amSiteF (C := RX2) (x := ⟨"ReadingStages$Shelf", "size", "()I"⟩) (metX2_size l G) rfl (by decide) (by decide) (lw_app (by intro w hw; simp only [List.mem_cons, List.not_mem_nil, or_false] at hw; rcases hw with e | e | e | e <;> rw [e] <;> first | exact q406 | exact q409 | exact q411 | exact q88) (lw_meth q413)) (List.mem_of_getElem? (i := 0) rfl) ⟨_, rfl, rfl⟩ ⟨by decide +kernel, by decide +kernel, by decide +kernel⟩)⟩, ?_⟩
  refine List.forall_mem_cons.mpr ⟨⟨_, _, dX7_find_17, amSite.P (amSiteF (C := RX2) (x := ⟨"ReadingStages$Shelf", "at", "(I)I"⟩) (metX2_at l G) rfl (by decide) (by decide) (lw_app (by intro w hw; simp only [List.mem_cons, List.not_mem_nil, or_false] at hw; rcases hw with e | e | e | e <;> rw [e] <;> first | exact q415 | exact q418 | exact q420 | exact q88) (lw_meth q422)) (List.mem_of_getElem? (i := 1) rfl) ⟨_, rfl, rfl⟩ ⟨by decide +kernel, by decide +kernel, by decide +kernel⟩)⟩, ?_⟩
  exact fun _ h => absurd h List.not_mem_nil)
theorem goX7_find {ret F} (hF : amCld cX7_find kX7_find (amLk rX7_find) (some .int) 0 0 ret F) (n : Nat) {pc ls st h k z} (q : sX7_find ret F n pc ls st h k z) : F pc ls st h k z := hF.1 n pc ls st h k z q
theorem metX7_find (l : Launch) (G : amG) : amMet l G yX7_find (ws_ yX7_find cX7_find 4 (some .int)) 2 0 0 tX7_find := by
  refine amMet_of (cut := kX7_find) (by decide +kernel) (evX7_find l G) ?_
  intro as h K hT
  match as, hT with
  | [.ref b, .int x0], ⟨l, x, e0, ⟨h1, h2, h3⟩, ⟨i1, i2, i3, i4⟩, hm, hn, hK⟩ =>
  refine ⟨Nat.le_of_ble_eq_true rfl, fun F hF => ?_⟩
  show F 0 [.ref b, .int x0, .retAddr 0, .retAddr 0] [] h 0 0
  obtain ⟨b, rfl⟩ : ∃ i : Nat, i = b := ⟨_, rfl⟩
  subst e0
  have hb : bdAt h b := ⟨h1, h2, h3⟩
  have hx := List.idxOf_lt_length_of_mem hm
  have hx7 := i2 x hm
  have loop : ∀ t p, l.length - p ≤ t → p ≤ l.length → F 5 [.ref b, .int (nI x), .int (if l.idxOf x < p then nI (l.idxOf x) else -4), .int (nI p)] [] h 0 0 := by
    intro t
    induction t with
    | zero =>
      intro p h4 h5
      have q : (l.length ≤ p) = True := eq_true (by omega)
      rw [if_pos (by omega)]
      refine goX7_find hF 30 ?_
      simp (disch := omega) only [wX7_find_0, uX7_find_0, wX7_find_2, wX7_find_3, wX7_find_4, wX7_find_5, uX7_find_5, wX7_find_6, wX7_find_7, wX7_find_12, wX7_find_15, wX7_find_16, wX7_find_17, wX7_find_22, wX7_find_23, wX7_find_26, wX7_find_27, wX7_find_30, wX7_find_31, wX7_find_32, wX7_find_35, wX7_find_38, wX7_find_39, amSI_1, amSI_2, amSI_3, amSI_s, amU_at, amIsR_ref, amIsR_null, amIsR_rf, amRf_some, amRf_none, amClr_int, amClr_ref, amClr_null, amClr_long, amClr_ra, amClr_rf, amFit_int, amFit_oref, amFit_aref, amFit_onull, amFit_anull, amOptSome, amOptNone, List.cons_append, List.nil_append, true_and, and_true, true_implies, not_true_eq_false, not_false_eq_true, false_implies, and_self, Nat.add_zero, Nat.zero_add, ne_eq, Prod.mk.injEq, amC01_0, amC01_1, amC01_nb, amNb0, amNb1, amTcpI_d, Nat.reduceLeDiff, Nat.reduceAdd, Nat.reduceSub, Nat.reduceEqDiff, Nat.le_refl, amN0le, tX2_size_d, h1, i3, amLeI, q]
      exact amRet.of (by decide) (by decide) hK
    | succ t ih =>
      intro p h4 h5
      by_cases q0 : l.length ≤ p
      · have q : (l.length ≤ p) = True := eq_true q0
        rw [if_pos (by omega)]
        refine goX7_find hF 30 ?_
        simp (disch := omega) only [wX7_find_0, uX7_find_0, wX7_find_2, wX7_find_3, wX7_find_4, wX7_find_5, uX7_find_5, wX7_find_6, wX7_find_7, wX7_find_12, wX7_find_15, wX7_find_16, wX7_find_17, wX7_find_22, wX7_find_23, wX7_find_26, wX7_find_27, wX7_find_30, wX7_find_31, wX7_find_32, wX7_find_35, wX7_find_38, wX7_find_39, amSI_1, amSI_2, amSI_3, amSI_s, amU_at, amIsR_ref, amIsR_null, amIsR_rf, amRf_some, amRf_none, amClr_int, amClr_ref, amClr_null, amClr_long, amClr_ra, amClr_rf, amFit_int, amFit_oref, amFit_aref, amFit_onull, amFit_anull, amOptSome, amOptNone, List.cons_append, List.nil_append, true_and, and_true, true_implies, not_true_eq_false, not_false_eq_true, false_implies, and_self, Nat.add_zero, Nat.zero_add, ne_eq, Prod.mk.injEq, amC01_0, amC01_1, amC01_nb, amNb0, amNb1, amTcpI_d, Nat.reduceLeDiff, Nat.reduceAdd, Nat.reduceSub, Nat.reduceEqDiff, Nat.le_refl, amN0le, tX2_size_d, h1, i3, amLeI, q]
        exact amRet.of (by decide) (by decide) hK
      · have q : (l.length ≤ p) = False := eq_false q0
        have hl7 := i2 _ (getD_mem (l := l) (p := p) (by omega))
        have nx := ih (p + 1) (by omega) (by omega)
        refine goX7_find hF 30 ?_
        simp (disch := omega) only [wX7_find_0, uX7_find_0, wX7_find_2, wX7_find_3, wX7_find_4, wX7_find_5, uX7_find_5, wX7_find_6, wX7_find_7, wX7_find_12, wX7_find_15, wX7_find_16, wX7_find_17, wX7_find_22, wX7_find_23, wX7_find_26, wX7_find_27, wX7_find_30, wX7_find_31, wX7_find_32, wX7_find_35, wX7_find_38, wX7_find_39, amSI_1, amSI_2, amSI_3, amSI_s, amU_at, amIsR_ref, amIsR_null, amIsR_rf, amRf_some, amRf_none, amClr_int, amClr_ref, amClr_null, amClr_long, amClr_ra, amClr_rf, amFit_int, amFit_oref, amFit_aref, amFit_onull, amFit_anull, amOptSome, amOptNone, List.cons_append, List.nil_append, true_and, and_true, true_implies, not_true_eq_false, not_false_eq_true, false_implies, and_self, Nat.add_zero, Nat.zero_add, ne_eq, Prod.mk.injEq, amC01_0, amC01_1, amC01_nb, amNb0, amNb1, amTcpI_d, Nat.reduceLeDiff, Nat.reduceAdd, Nat.reduceSub, Nat.reduceEqDiff, Nat.le_refl, amN0le, tX2_size_d, tX2_at_d, hb, h1, i3, amLeI, q, amVI, amCl_nI, i4 p (by omega), amAdd, amEqI]
        refine ⟨fun y => ?_, fun y => ?_⟩
        · have hne : l.idxOf x ≠ p := fun z => y (by
            have h9 : l.getD p 0 = l[p] := by rw [List.getD_eq_getElem?_getD, List.getElem?_eq_getElem (by omega)]; rfl
            rw [h9]
            simp only [← z]
            exact List.getElem_idxOf hx)
          by_cases z : l.idxOf x < p
          · rw [if_pos z]
            rw [if_pos (by omega)] at nx
            exact nx
          · rw [if_neg z]
            rw [if_neg (by omega)] at nx
            exact nx
        · have he : l.idxOf x = p := by rw [← y]; exact idx_at hn (by omega)
          rw [if_pos (by omega), he] at nx
          exact nx
  refine goX7_find hF 10 ?_
  simp (disch := omega) only [wX7_find_0, uX7_find_0, wX7_find_2, wX7_find_3, wX7_find_4, wX7_find_5, uX7_find_5, wX7_find_6, wX7_find_7, wX7_find_12, wX7_find_15, wX7_find_16, wX7_find_17, wX7_find_22, wX7_find_23, wX7_find_26, wX7_find_27, wX7_find_30, wX7_find_31, wX7_find_32, wX7_find_35, wX7_find_38, wX7_find_39, amSI_1, amSI_2, amSI_3, amSI_s, amU_at, amIsR_ref, amIsR_null, amIsR_rf, amRf_some, amRf_none, amClr_int, amClr_ref, amClr_null, amClr_long, amClr_ra, amClr_rf, amFit_int, amFit_oref, amFit_aref, amFit_onull, amFit_anull, amOptSome, amOptNone, List.cons_append, List.nil_append, true_and, and_true, true_implies, not_true_eq_false, not_false_eq_true, false_implies, and_self, Nat.add_zero, Nat.zero_add, ne_eq, Prod.mk.injEq, amC01_0, amC01_1, amC01_nb, amNb0, amNb1, amTcpI_d, Nat.reduceLeDiff, Nat.reduceAdd, Nat.reduceSub, Nat.reduceEqDiff, Nat.le_refl, amN0le]
  have := loop l.length 0 (by omega) (by omega)
  rw [if_neg (by omega)] at this
  exact this
theorem tX7_find_d {b : Nat} {x0 : Int32} {h : amH} {K : Option Value → amH → Prop} : tX7_find [.ref b, .int x0] h K = ∃ (l : List Nat) (x : Nat), x0 = nI x ∧ bdAt h b ∧ bdIs h.2.1 b l ∧ x ∈ l ∧ l.Nodup ∧ K (some (.int (nI (l.idxOf x)))) h := rfl
def tX7_holds : amT := fun as h K => match as with
  | [.ref b, .ref c] => ∃ (l : List Nat) (a : Nat → Nat), bdAt h b ∧ bdIs h.2.1 b l ∧ h.1 c = (2, 7) ∧ (∀ x ∈ l, h.2.1 c x = nI (a x) ∧ a x < 128) ∧ K (some (.int (amC01 (hdL a l = true)))) h
  | _ => False
/-! ReadingStages$Shelf.holds([B)Z -/
def kX7_holds : Nat → Bool := fun pc => pc == 7 || pc == 42
def rX7_holds : List (Nat × amS) := [(10, 1, 0, 0, (amRecv 2 tX2_size)), (26, 2, 0, 0, (amRecv 2 tX2_at)), (48, 2, 0, 0, (amRecv 2 tX2_at))]
def eX7_holds (ret : Option Value → amH → Nat → Nat → Prop) (F : amX) : Nat → amX := amWp cX7_holds kX7_holds (amLk rX7_holds) (some .boolean) 0 0 ret F
def sX7_holds (ret : Option Value → amH → Nat → Nat → Prop) (F : amX) : Nat → amX := amWs cX7_holds kX7_holds (amLk rX7_holds) (some .boolean) 0 0 ret F
theorem wX7_holds_0 {ret F n h} {v0 v1 v2 v3 v4 st} : eX7_holds ret F (n + 1) 0 [v0, v1, v2, v3, v4] (st) h 0 0 = (eX7_holds ret F n 1 [v0, v1, v2, v3, v4] (.int (nI 0) :: st) h 0 0) := (amWp_dec rfl dX7_holds_0 rfl).trans rfl
theorem uX7_holds_0 {ret F n h} {v0 v1 v2 v3 v4 st} : sX7_holds ret F n 0 [v0, v1, v2, v3, v4] (st) h 0 0 = (eX7_holds ret F n 1 [v0, v1, v2, v3, v4] (.int (nI 0) :: st) h 0 0) := (amWs_dec dX7_holds_0 rfl).trans rfl
theorem wX7_holds_1 {ret F n h} {v0 v1 v2 v3 v4 st x} : eX7_holds ret F (n + 1) 1 [v0, v1, v2, v3, v4] (.int x :: st) h 0 0 = (eX7_holds ret F n 2 [v0, amClr v1, .int x, v3, v4] (st) h 0 0) := (amWp_dec rfl dX7_holds_1 rfl).trans (amTrue (Nat.le_of_ble_eq_true rfl))
theorem wX7_holds_2 {ret F n h} {v0 v1 v2 v3 v4 st} : eX7_holds ret F (n + 1) 2 [v0, v1, v2, v3, v4] (st) h 0 0 = (eX7_holds ret F n 3 [v0, v1, v2, v3, v4] (.int (nI 1) :: st) h 0 0) := (amWp_dec rfl dX7_holds_2 rfl).trans rfl
theorem wX7_holds_3 {ret F n h} {v0 v1 v2 v3 v4 st x} : eX7_holds ret F (n + 1) 3 [v0, v1, v2, v3, v4] (.int x :: st) h 0 0 = (eX7_holds ret F n 4 [v0, v1, amClr v2, .int x, v4] (st) h 0 0) := (amWp_dec rfl dX7_holds_3 rfl).trans (amTrue (Nat.le_of_ble_eq_true rfl))
theorem wX7_holds_4 {ret F n h} {v0 v1 v2 v3 v4 st} : eX7_holds ret F (n + 1) 4 [v0, v1, v2, v3, v4] (st) h 0 0 = (eX7_holds ret F n 5 [v0, v1, v2, v3, v4] (.int (nI 0) :: st) h 0 0) := (amWp_dec rfl dX7_holds_4 rfl).trans rfl
theorem wX7_holds_5 {ret F n h} {v0 v1 v2 v3 v4 st x} : eX7_holds ret F (n + 1) 5 [v0, v1, v2, v3, v4] (.int x :: st) h 0 0 = (eX7_holds ret F n 7 [v0, v1, v2, amClr v3, .int x] (st) h 0 0) := (amWp_dec rfl dX7_holds_5 rfl).trans (amTrue (Nat.le_of_ble_eq_true rfl))
theorem wX7_holds_7 {ret F n ls st h k z} : eX7_holds ret F (n + 1) 7 ls st h k z = F 7 ls st h k z := amWp_cut rfl
theorem uX7_holds_7 {ret F n h} {v0 v1 v2 v3 st x} : sX7_holds ret F n 7 [v0, v1, v2, v3, .int x] (st) h 0 0 = (eX7_holds ret F n 9 [v0, v1, v2, v3, .int x] (.int x :: st) h 0 0) := (amWs_dec dX7_holds_7 rfl).trans rfl
theorem wX7_holds_9 {ret F n h} {v0 v1 v2 v3 v4 st} : eX7_holds ret F (n + 1) 9 [v0, v1, v2, v3, v4] (st) h 0 0 = (amIsR v0 ∧ eX7_holds ret F n 10 [v0, v1, v2, v3, v4] (v0 :: st) h 0 0) := (amWp_dec rfl dX7_holds_9 rfl).trans rfl
theorem wX7_holds_10 {ret F n h} {v0 v1 v2 v3 v4 x0 r0} : eX7_holds ret F (n + 1) 10 [v0, v1, v2, v3, v4] (.ref x0 :: r0 :: []) h 0 0 = (h.1 x0 = (0, 2) ∧ tX2_size [.ref x0] h (fun v h => eX7_holds ret F n 15 [v0, v1, v2, v3, v4] (v.toList ++ (r0 :: [])) h 0 0)) := (amWp_dec rfl dX7_holds_10 rfl).trans (amS4 (Nat.le_of_ble_eq_true rfl) (Nat.le_of_ble_eq_true rfl) (Nat.le_of_ble_eq_true rfl) (Nat.le_of_ble_eq_true rfl))
theorem wX7_holds_15 {ret F n h} {v0 v1 v2 v3 v4 st y x} : eX7_holds ret F (n + 1) 15 [v0, v1, v2, v3, v4] (.int y :: .int x :: st) h 0 0 = ((y ≤ x → eX7_holds ret F n 62 [v0, v1, v2, v3, v4] (st) h 0 0) ∧ (¬ y ≤ x → eX7_holds ret F n 18 [v0, v1, v2, v3, v4] (st) h 0 0)) := (amWp_dec rfl dX7_holds_15 rfl).trans rfl
theorem wX7_holds_18 {ret F n h} {v0 v1 v2 v4 st x} : eX7_holds ret F (n + 1) 18 [v0, v1, v2, .int x, v4] (st) h 0 0 = (eX7_holds ret F n 19 [v0, v1, v2, .int x, v4] (.int x :: st) h 0 0) := (amWp_dec rfl dX7_holds_18 rfl).trans rfl
theorem wX7_holds_19 {ret F n h} {v0 v1 v2 v3 v4 st x} : eX7_holds ret F (n + 1) 19 [v0, v1, v2, v3, v4] (.int x :: st) h 0 0 = ((x = 0 → eX7_holds ret F n 41 [v0, v1, v2, v3, v4] (st) h 0 0) ∧ (¬ x = 0 → eX7_holds ret F n 22 [v0, v1, v2, v3, v4] (st) h 0 0)) := (amWp_dec rfl dX7_holds_19 rfl).trans rfl
theorem wX7_holds_22 {ret F n h} {v0 v1 v2 v3 v4 st} : eX7_holds ret F (n + 1) 22 [v0, v1, v2, v3, v4] (st) h 0 0 = (amIsR v1 ∧ eX7_holds ret F n 23 [v0, v1, v2, v3, v4] (v1 :: st) h 0 0) := (amWp_dec rfl dX7_holds_22 rfl).trans rfl
theorem wX7_holds_23 {ret F n h} {v0 v1 v2 v3 v4 st} : eX7_holds ret F (n + 1) 23 [v0, v1, v2, v3, v4] (st) h 0 0 = (amIsR v0 ∧ eX7_holds ret F n 24 [v0, v1, v2, v3, v4] (v0 :: st) h 0 0) := (amWp_dec rfl dX7_holds_23 rfl).trans rfl
theorem wX7_holds_24 {ret F n h} {v0 v1 v2 v3 st x} : eX7_holds ret F (n + 1) 24 [v0, v1, v2, v3, .int x] (st) h 0 0 = (eX7_holds ret F n 26 [v0, v1, v2, v3, .int x] (.int x :: st) h 0 0) := (amWp_dec rfl dX7_holds_24 rfl).trans rfl
theorem wX7_holds_26 {ret F n h} {v0 v1 v2 v3 v4 x1 x0 r0} : eX7_holds ret F (n + 1) 26 [v0, v1, v2, v3, v4] (.int x1 :: .ref x0 :: r0 :: []) h 0 0 = (h.1 x0 = (0, 2) ∧ tX2_at [.ref x0, .int x1] h (fun v h => eX7_holds ret F n 31 [v0, v1, v2, v3, v4] (v.toList ++ (r0 :: [])) h 0 0)) := (amWp_dec rfl dX7_holds_26 rfl).trans (amS4 (Nat.le_of_ble_eq_true rfl) (Nat.le_of_ble_eq_true rfl) (Nat.le_of_ble_eq_true rfl) (Nat.le_of_ble_eq_true rfl))
theorem wX7_holds_31 {ret F n h} {v0 v1 v2 v3 v4 st x a} : eX7_holds ret F (n + 1) 31 [v0, v1, v2, v3, v4] (.int x :: .ref a :: st) h 0 0 = ((h.1 a).1 = 2 ∧ vp_in x (h.1 a).2 ∧ eX7_holds ret F n 32 [v0, v1, v2, v3, v4] (.int (h.2.1 a x.toNatClampNeg) :: st) h 0 0) := (amWp_dec rfl dX7_holds_31 rfl).trans rfl
theorem wX7_holds_32 {ret F n h} {v0 v1 v3 v4 st x} : eX7_holds ret F (n + 1) 32 [v0, v1, .int x, v3, v4] (st) h 0 0 = (eX7_holds ret F n 33 [v0, v1, .int x, v3, v4] (.int x :: st) h 0 0) := (amWp_dec rfl dX7_holds_32 rfl).trans rfl
theorem wX7_holds_33 {ret F n h} {v0 v1 v2 v3 v4 st y x} : eX7_holds ret F (n + 1) 33 [v0, v1, v2, v3, v4] (.int y :: .int x :: st) h 0 0 = (eX7_holds ret F n 34 [v0, v1, v2, v3, v4] (.int (x &&& y) :: st) h 0 0) := (amWp_dec rfl dX7_holds_33 rfl).trans rfl
theorem wX7_holds_34 {ret F n h} {v0 v1 v2 v3 v4 st x} : eX7_holds ret F (n + 1) 34 [v0, v1, v2, v3, v4] (.int x :: st) h 0 0 = ((¬ x = 0 → eX7_holds ret F n 41 [v0, v1, v2, v3, v4] (st) h 0 0) ∧ (x = 0 → eX7_holds ret F n 37 [v0, v1, v2, v3, v4] (st) h 0 0)) := (amWp_dec rfl dX7_holds_34 rfl).trans rfl
theorem wX7_holds_37 {ret F n h} {v0 v1 v2 v3 v4 st} : eX7_holds ret F (n + 1) 37 [v0, v1, v2, v3, v4] (st) h 0 0 = (eX7_holds ret F n 38 [v0, v1, v2, v3, v4] (.int (nI 1) :: st) h 0 0) := (amWp_dec rfl dX7_holds_37 rfl).trans rfl
theorem wX7_holds_38 {ret F n h} {v0 v1 v2 v3 v4 st} : eX7_holds ret F (n + 1) 38 [v0, v1, v2, v3, v4] (st) h 0 0 = (eX7_holds ret F n 42 [v0, v1, v2, v3, v4] (st) h 0 0) := (amWp_dec rfl dX7_holds_38 rfl).trans rfl
theorem wX7_holds_41 {ret F n h} {v0 v1 v2 v3 v4 st} : eX7_holds ret F (n + 1) 41 [v0, v1, v2, v3, v4] (st) h 0 0 = (eX7_holds ret F n 42 [v0, v1, v2, v3, v4] (.int (nI 0) :: st) h 0 0) := (amWp_dec rfl dX7_holds_41 rfl).trans rfl
theorem wX7_holds_42 {ret F n ls st h k z} : eX7_holds ret F (n + 1) 42 ls st h k z = F 42 ls st h k z := amWp_cut rfl
theorem uX7_holds_42 {ret F n h} {v0 v1 v2 v3 v4 st x} : sX7_holds ret F n 42 [v0, v1, v2, v3, v4] (.int x :: st) h 0 0 = (eX7_holds ret F n 43 [v0, v1, amClr v2, .int x, v4] (st) h 0 0) := (amWs_dec dX7_holds_42 rfl).trans (amTrue (Nat.le_of_ble_eq_true rfl))
theorem wX7_holds_43 {ret F n h} {v0 v1 v3 v4 st x} : eX7_holds ret F (n + 1) 43 [v0, v1, .int x, v3, v4] (st) h 0 0 = (eX7_holds ret F n 44 [v0, v1, .int x, v3, v4] (.int x :: st) h 0 0) := (amWp_dec rfl dX7_holds_43 rfl).trans rfl
theorem wX7_holds_44 {ret F n h} {v0 v1 v2 v3 v4 st} : eX7_holds ret F (n + 1) 44 [v0, v1, v2, v3, v4] (st) h 0 0 = (eX7_holds ret F n 45 [v0, v1, v2, v3, v4] (.int (nI 1) :: st) h 0 0) := (amWp_dec rfl dX7_holds_44 rfl).trans rfl
theorem wX7_holds_45 {ret F n h} {v0 v1 v2 v3 v4 st} : eX7_holds ret F (n + 1) 45 [v0, v1, v2, v3, v4] (st) h 0 0 = (amIsR v0 ∧ eX7_holds ret F n 46 [v0, v1, v2, v3, v4] (v0 :: st) h 0 0) := (amWp_dec rfl dX7_holds_45 rfl).trans rfl
theorem wX7_holds_46 {ret F n h} {v0 v1 v2 v3 st x} : eX7_holds ret F (n + 1) 46 [v0, v1, v2, v3, .int x] (st) h 0 0 = (eX7_holds ret F n 48 [v0, v1, v2, v3, .int x] (.int x :: st) h 0 0) := (amWp_dec rfl dX7_holds_46 rfl).trans rfl
theorem wX7_holds_48 {ret F n h} {v0 v1 v2 v3 v4 x1 x0 r0 r1} : eX7_holds ret F (n + 1) 48 [v0, v1, v2, v3, v4] (.int x1 :: .ref x0 :: r0 :: r1 :: []) h 0 0 = (h.1 x0 = (0, 2) ∧ tX2_at [.ref x0, .int x1] h (fun v h => eX7_holds ret F n 53 [v0, v1, v2, v3, v4] (v.toList ++ (r0 :: r1 :: [])) h 0 0)) := (amWp_dec rfl dX7_holds_48 rfl).trans (amS4 (Nat.le_of_ble_eq_true rfl) (Nat.le_of_ble_eq_true rfl) (Nat.le_of_ble_eq_true rfl) (Nat.le_of_ble_eq_true rfl))
theorem wX7_holds_53 {ret F n h} {v0 v1 v2 v3 v4 st y x} : eX7_holds ret F (n + 1) 53 [v0, v1, v2, v3, v4] (.int y :: .int x :: st) h 0 0 = (eX7_holds ret F n 54 [v0, v1, v2, v3, v4] (.int (x <<< (y &&& 31)) :: st) h 0 0) := (amWp_dec rfl dX7_holds_53 rfl).trans rfl
theorem wX7_holds_54 {ret F n h} {v0 v1 v2 v3 v4 st y x} : eX7_holds ret F (n + 1) 54 [v0, v1, v2, v3, v4] (.int y :: .int x :: st) h 0 0 = (eX7_holds ret F n 55 [v0, v1, v2, v3, v4] (.int (x ||| y) :: st) h 0 0) := (amWp_dec rfl dX7_holds_54 rfl).trans rfl
theorem wX7_holds_55 {ret F n h} {v0 v1 v2 v3 v4 st x} : eX7_holds ret F (n + 1) 55 [v0, v1, v2, v3, v4] (.int x :: st) h 0 0 = (eX7_holds ret F n 56 [v0, amClr v1, .int x, v3, v4] (st) h 0 0) := (amWp_dec rfl dX7_holds_55 rfl).trans (amTrue (Nat.le_of_ble_eq_true rfl))
theorem wX7_holds_56 {ret F n h} {v0 v1 v2 v3 st x} : eX7_holds ret F (n + 1) 56 [v0, v1, v2, v3, .int x] (st) h 0 0 = (eX7_holds ret F n 59 [v0, v1, v2, amClr v3, .int (x + nI 1)] (st) h 0 0) := (amWp_dec rfl dX7_holds_56 rfl).trans rfl
theorem wX7_holds_59 {ret F n h} {v0 v1 v2 v3 v4 st} : eX7_holds ret F (n + 1) 59 [v0, v1, v2, v3, v4] (st) h 0 0 = (eX7_holds ret F n 7 [v0, v1, v2, v3, v4] (st) h 0 0) := (amWp_dec rfl dX7_holds_59 rfl).trans rfl
theorem wX7_holds_62 {ret F n h} {v0 v1 v2 v4 st x} : eX7_holds ret F (n + 1) 62 [v0, v1, v2, .int x, v4] (st) h 0 0 = (eX7_holds ret F n 63 [v0, v1, v2, .int x, v4] (.int x :: st) h 0 0) := (amWp_dec rfl dX7_holds_62 rfl).trans rfl
theorem wX7_holds_63 {ret F n h} {v0 v1 v2 v3 v4 x} : eX7_holds ret F (n + 1) 63 [v0, v1, v2, v3, v4] ([.int x]) h 0 0 = (narrow .boolean (.int x) = .int x ∧ ret (some (.int x)) h 0 0) := (amWp_dec rfl dX7_holds_63 rfl).trans (amRetTy)
theorem evX7_holds (l : Launch) (G : amG) : ∀ pc S i sz, amLk rX7_holds pc = some S → decode cX7_holds pc = .ok (i, sz) → amSiteP pc G l yX7_holds.cls yX7_holds.name yX7_holds.desc (amRm 2 0 0) i sz S.1 S.2.1 S.2.2.1 S.2.2.2 := amLk_ok (by
  refine List.forall_mem_cons.mpr ⟨⟨_, _, dX7_holds_10, amSite.P (amSiteF (C := RX2) (x := ⟨"ReadingStages$Shelf", "size", "()I"⟩) (metX2_size l G) rfl (by decide) (by decide) (lw_app (by intro w hw; simp only [List.mem_cons, List.not_mem_nil, or_false] at hw; rcases hw with e | e | e | e <;> rw [e] <;> first | exact q406 | exact q409 | exact q411 | exact q88) (lw_meth q413)) (List.mem_of_getElem? (i := 0) rfl) ⟨_, rfl, rfl⟩ ⟨by decide +kernel, by decide +kernel, by decide +kernel⟩)⟩, ?_⟩
  refine List.forall_mem_cons.mpr ⟨⟨_, _, dX7_holds_26, amSite.P (amSiteF (C := RX2) (x := ⟨"ReadingStages$Shelf", "at", "(I)I"⟩) (metX2_at l G) rfl (by decide) (by decide) (lw_app (by intro w hw; simp only [List.mem_cons, List.not_mem_nil, or_false] at hw; rcases hw with e | e | e | e <;> rw [e] <;> first | exact q415 | exact q418 | exact q420 | exact q88) (lw_meth q422)) (List.mem_of_getElem? (i := 1) rfl) ⟨_, rfl, rfl⟩ ⟨by decide +kernel, by decide +kernel, by decide +kernel⟩)⟩, ?_⟩
  refine List.forall_mem_cons.mpr ⟨⟨_, _, dX7_holds_48, amSite.P (amSiteF (C := RX2) (x := ⟨"ReadingStages$Shelf", "at", "(I)I"⟩) (metX2_at l G) rfl (by decide) (by decide) (lw_app (by intro w hw; simp only [List.mem_cons, List.not_mem_nil, or_false] at hw; rcases hw with e | e | e | e <;> rw [e] <;> first | exact q415 | exact q418 | exact q420 | exact q88) (lw_meth q422)) (List.mem_of_getElem? (i := 1) rfl) ⟨_, rfl, rfl⟩ ⟨by decide +kernel, by decide +kernel, by decide +kernel⟩)⟩, ?_⟩
  exact fun _ h => absurd h List.not_mem_nil)
theorem goX7_holds {ret F} (hF : amCld cX7_holds kX7_holds (amLk rX7_holds) (some .boolean) 0 0 ret F) (n : Nat) {pc ls st h k z} (q : sX7_holds ret F n pc ls st h k z) : F pc ls st h k z := hF.1 n pc ls st h k z q
theorem metX7_holds (l : Launch) (G : amG) : amMet l G yX7_holds (ws_ yX7_holds cX7_holds 5 (some .boolean)) 2 0 0 tX7_holds := by
  refine amMet_of (cut := kX7_holds) (by decide +kernel) (evX7_holds l G) ?_
  intro as h K hT
  match as, hT with
  | [.ref b, .ref c], ⟨l, a, ⟨h1, h2, h3⟩, ⟨i1, i2, i3, i4⟩, hc, ha, hK⟩ =>
  refine ⟨Nat.le_of_ble_eq_true rfl, fun F hF => ?_⟩
  show F 0 [.ref b, .ref c, .retAddr 0, .retAddr 0, .retAddr 0] [] h 0 0
  obtain ⟨b, rfl⟩ : ∃ i : Nat, i = b := ⟨_, rfl⟩
  obtain ⟨c, rfl⟩ : ∃ i : Nat, i = c := ⟨_, rfl⟩
  have hb : bdAt h b := ⟨h1, h2, h3⟩
  have lt : ∀ p, (hdF a (l.take p)).1 < 128 := fun p => hdF_lt (n := 7) _ _ (by decide) (fun x hx => i2 x (List.mem_of_mem_take hx))
  have loop : ∀ t p, l.length - p ≤ t → p ≤ l.length → F 7 [.ref b, .ref c, .int (nI (hdF a (l.take p)).1), .int (amC01 ((hdF a (l.take p)).2 = true)), .int (nI p)] [] h 0 0 := by
    intro t
    induction t with
    | zero =>
      intro p h4 h5
      have q : (l.length ≤ p) = True := eq_true (by omega)
      have e : l.take p = l := List.take_of_length_le (by omega)
      rw [e]
      refine goX7_holds hF 30 ?_
      simp (disch := omega) only [wX7_holds_0, uX7_holds_0, wX7_holds_1, wX7_holds_2, wX7_holds_3, wX7_holds_4, wX7_holds_5, wX7_holds_7, uX7_holds_7, wX7_holds_9, wX7_holds_10, wX7_holds_15, wX7_holds_18, wX7_holds_19, wX7_holds_22, wX7_holds_23, wX7_holds_24, wX7_holds_26, wX7_holds_31, wX7_holds_32, wX7_holds_33, wX7_holds_34, wX7_holds_37, wX7_holds_38, wX7_holds_41, wX7_holds_42, uX7_holds_42, wX7_holds_43, wX7_holds_44, wX7_holds_45, wX7_holds_46, wX7_holds_48, wX7_holds_53, wX7_holds_54, wX7_holds_55, wX7_holds_56, wX7_holds_59, wX7_holds_62, wX7_holds_63, amSI_1, amSI_2, amSI_3, amSI_s, amU_at, amIsR_ref, amIsR_null, amIsR_rf, amRf_some, amRf_none, amClr_int, amClr_ref, amClr_null, amClr_long, amClr_ra, amClr_rf, amFit_int, amFit_oref, amFit_aref, amFit_onull, amFit_anull, amOptSome, amOptNone, List.cons_append, List.nil_append, true_and, and_true, true_implies, not_true_eq_false, not_false_eq_true, false_implies, and_self, Nat.add_zero, Nat.zero_add, ne_eq, Prod.mk.injEq, amC01_0, amC01_1, amC01_nb, amNb0, amNb1, amTcpI_d, Nat.reduceLeDiff, Nat.reduceAdd, Nat.reduceSub, Nat.reduceEqDiff, Nat.le_refl, amN0le, tX2_size_d, h1, i3, amLeI, q]
      exact amRet.of (by decide) (by decide) hK
    | succ t ih =>
      intro p h4 h5
      by_cases q0 : l.length ≤ p
      · have q : (l.length ≤ p) = True := eq_true q0
        have e : l.take p = l := List.take_of_length_le q0
        rw [e]
        refine goX7_holds hF 30 ?_
        simp (disch := omega) only [wX7_holds_0, uX7_holds_0, wX7_holds_1, wX7_holds_2, wX7_holds_3, wX7_holds_4, wX7_holds_5, wX7_holds_7, uX7_holds_7, wX7_holds_9, wX7_holds_10, wX7_holds_15, wX7_holds_18, wX7_holds_19, wX7_holds_22, wX7_holds_23, wX7_holds_24, wX7_holds_26, wX7_holds_31, wX7_holds_32, wX7_holds_33, wX7_holds_34, wX7_holds_37, wX7_holds_38, wX7_holds_41, wX7_holds_42, uX7_holds_42, wX7_holds_43, wX7_holds_44, wX7_holds_45, wX7_holds_46, wX7_holds_48, wX7_holds_53, wX7_holds_54, wX7_holds_55, wX7_holds_56, wX7_holds_59, wX7_holds_62, wX7_holds_63, amSI_1, amSI_2, amSI_3, amSI_s, amU_at, amIsR_ref, amIsR_null, amIsR_rf, amRf_some, amRf_none, amClr_int, amClr_ref, amClr_null, amClr_long, amClr_ra, amClr_rf, amFit_int, amFit_oref, amFit_aref, amFit_onull, amFit_anull, amOptSome, amOptNone, List.cons_append, List.nil_append, true_and, and_true, true_implies, not_true_eq_false, not_false_eq_true, false_implies, and_self, Nat.add_zero, Nat.zero_add, ne_eq, Prod.mk.injEq, amC01_0, amC01_1, amC01_nb, amNb0, amNb1, amTcpI_d, Nat.reduceLeDiff, Nat.reduceAdd, Nat.reduceSub, Nat.reduceEqDiff, Nat.le_refl, amN0le, tX2_size_d, h1, i3, amLeI, q]
        exact amRet.of (by decide) (by decide) hK
      · have q : (l.length ≤ p) = False := eq_false q0
        have hm := getD_mem (l := l) (p := p) (by omega)
        have hl7 := i2 _ hm
        obtain ⟨a1, a2⟩ := ha _ hm
        have b2 := lt p
        have nx := ih (p + 1) (by omega) (by omega)
        rw [hdF_take (by omega)] at nx
        have join : ∀ c0 : Int32, c0 = amC01 ((hdStep a (hdF a (l.take p)) (l.getD p 0)).2 = true) → F 42 [.ref b, .ref c, .int (nI (hdF a (l.take p)).1), .int (amC01 ((hdF a (l.take p)).2 = true)), .int (nI p)] [.int c0] h 0 0 := by
          intro c0 e0
          subst e0
          refine goX7_holds hF 30 ?_
          simp (disch := omega) only [wX7_holds_0, uX7_holds_0, wX7_holds_1, wX7_holds_2, wX7_holds_3, wX7_holds_4, wX7_holds_5, wX7_holds_7, uX7_holds_7, wX7_holds_9, wX7_holds_10, wX7_holds_15, wX7_holds_18, wX7_holds_19, wX7_holds_22, wX7_holds_23, wX7_holds_24, wX7_holds_26, wX7_holds_31, wX7_holds_32, wX7_holds_33, wX7_holds_34, wX7_holds_37, wX7_holds_38, wX7_holds_41, wX7_holds_42, uX7_holds_42, wX7_holds_43, wX7_holds_44, wX7_holds_45, wX7_holds_46, wX7_holds_48, wX7_holds_53, wX7_holds_54, wX7_holds_55, wX7_holds_56, wX7_holds_59, wX7_holds_62, wX7_holds_63, amSI_1, amSI_2, amSI_3, amSI_s, amU_at, amIsR_ref, amIsR_null, amIsR_rf, amRf_some, amRf_none, amClr_int, amClr_ref, amClr_null, amClr_long, amClr_ra, amClr_rf, amFit_int, amFit_oref, amFit_aref, amFit_onull, amFit_anull, amOptSome, amOptNone, List.cons_append, List.nil_append, true_and, and_true, true_implies, not_true_eq_false, not_false_eq_true, false_implies, and_self, Nat.add_zero, Nat.zero_add, ne_eq, Prod.mk.injEq, amC01_0, amC01_1, amC01_nb, amNb0, amNb1, amTcpI_d, Nat.reduceLeDiff, Nat.reduceAdd, Nat.reduceSub, Nat.reduceEqDiff, Nat.le_refl, amN0le, tX2_size_d, tX2_at_d, hb, h1, i3, amLeI, q, amVI, amCl_nI, i4 p (by omega), amAdd, nx_p2, nx_or]
          exact nx
        refine goX7_holds hF 30 ?_
        simp (disch := omega) only [wX7_holds_0, uX7_holds_0, wX7_holds_1, wX7_holds_2, wX7_holds_3, wX7_holds_4, wX7_holds_5, wX7_holds_7, uX7_holds_7, wX7_holds_9, wX7_holds_10, wX7_holds_15, wX7_holds_18, wX7_holds_19, wX7_holds_22, wX7_holds_23, wX7_holds_24, wX7_holds_26, wX7_holds_31, wX7_holds_32, wX7_holds_33, wX7_holds_34, wX7_holds_37, wX7_holds_38, wX7_holds_41, wX7_holds_42, uX7_holds_42, wX7_holds_43, wX7_holds_44, wX7_holds_45, wX7_holds_46, wX7_holds_48, wX7_holds_53, wX7_holds_54, wX7_holds_55, wX7_holds_56, wX7_holds_59, wX7_holds_62, wX7_holds_63, amSI_1, amSI_2, amSI_3, amSI_s, amU_at, amIsR_ref, amIsR_null, amIsR_rf, amRf_some, amRf_none, amClr_int, amClr_ref, amClr_null, amClr_long, amClr_ra, amClr_rf, amFit_int, amFit_oref, amFit_aref, amFit_onull, amFit_anull, amOptSome, amOptNone, List.cons_append, List.nil_append, true_and, and_true, true_implies, not_true_eq_false, not_false_eq_true, false_implies, and_self, Nat.add_zero, Nat.zero_add, ne_eq, Prod.mk.injEq, amC01_0, amC01_1, amC01_nb, amNb0, amNb1, amTcpI_d, Nat.reduceLeDiff, Nat.reduceAdd, Nat.reduceSub, Nat.reduceEqDiff, Nat.le_refl, amN0le, tX2_size_d, tX2_at_d, hb, h1, i3, hc, amLeI, q, amVI, amCl_nI, i4 p (by omega), a1, amAdd, nx_and]
        have hv : a (l.getD p 0) &&& (hdF a (l.take p)).1 < 128 := Nat.lt_of_le_of_lt Nat.and_le_left a2
        refine ⟨fun y => join _ (amC01_f ?_).symm, fun y => ⟨fun z => join _ (amC01_f ?_).symm, fun z => join _ (amC01_t ?_).symm⟩⟩
        · simp [hdStep, y]
        · intro w
          simp only [hdStep, Bool.and_eq_true, beq_iff_eq] at w
          exact z (by rw [w.2]; rfl)
        · have y2 := Classical.not_not.mp y
          have z2 : a (l.getD p 0) &&& (hdF a (l.take p)).1 = 0 := (nI_eq (by omega) (by omega)).mp z
          simp only [hdStep, y2, z2, Bool.true_and, beq_self_eq_true]
  refine goX7_holds hF 10 ?_
  simp (disch := omega) only [wX7_holds_0, uX7_holds_0, wX7_holds_1, wX7_holds_2, wX7_holds_3, wX7_holds_4, wX7_holds_5, wX7_holds_7, uX7_holds_7, wX7_holds_9, wX7_holds_10, wX7_holds_15, wX7_holds_18, wX7_holds_19, wX7_holds_22, wX7_holds_23, wX7_holds_24, wX7_holds_26, wX7_holds_31, wX7_holds_32, wX7_holds_33, wX7_holds_34, wX7_holds_37, wX7_holds_38, wX7_holds_41, wX7_holds_42, uX7_holds_42, wX7_holds_43, wX7_holds_44, wX7_holds_45, wX7_holds_46, wX7_holds_48, wX7_holds_53, wX7_holds_54, wX7_holds_55, wX7_holds_56, wX7_holds_59, wX7_holds_62, wX7_holds_63, amSI_1, amSI_2, amSI_3, amSI_s, amU_at, amIsR_ref, amIsR_null, amIsR_rf, amRf_some, amRf_none, amClr_int, amClr_ref, amClr_null, amClr_long, amClr_ra, amClr_rf, amFit_int, amFit_oref, amFit_aref, amFit_onull, amFit_anull, amOptSome, amOptNone, List.cons_append, List.nil_append, true_and, and_true, true_implies, not_true_eq_false, not_false_eq_true, false_implies, and_self, Nat.add_zero, Nat.zero_add, ne_eq, Prod.mk.injEq, amC01_0, amC01_1, amC01_nb, amNb0, amNb1, amTcpI_d, Nat.reduceLeDiff, Nat.reduceAdd, Nat.reduceSub, Nat.reduceEqDiff, Nat.le_refl, amN0le]
  exact loop l.length 0 (by omega) (by omega)
theorem tX7_holds_d {b c : Nat} {h : amH} {K : Option Value → amH → Prop} : tX7_holds [.ref b, .ref c] h K = ∃ (l : List Nat) (a : Nat → Nat), bdAt h b ∧ bdIs h.2.1 b l ∧ h.1 c = (2, 7) ∧ (∀ x ∈ l, h.2.1 c x = nI (a x) ∧ a x < 128) ∧ K (some (.int (amC01 (hdL a l = true)))) h := rfl
def tX7_areAlike : amT := fun as h K => match as with
  | [.ref b, .ref c] => ∃ (l g : List Nat), bdAt h b ∧ bdIs h.2.1 b l ∧ bdAt h c ∧ bdIs h.2.1 c g ∧ K (some (.int (amC01 (l.length = g.length ∧ numL l = numL g)))) h
  | _ => False
theorem numL_lt : ∀ (l : List Nat), (∀ x ∈ l, x < 7) → numL l < 10 ^ l.length := by
  have gen : ∀ (l : List Nat) (v k : Nat), (∀ x ∈ l, x < 7) → v < 10 ^ k → l.foldl (fun v x => 10 * v + x) v < 10 ^ (k + l.length) := by
    intro l
    induction l with
    | nil => intro v k _ hv; exact hv
    | cons x t ih =>
      intro v k hx hv
      have h1 := hx x List.mem_cons_self
      have h2 := ih (10 * v + x) (k + 1) (fun y hy => hx y (List.mem_cons_of_mem _ hy)) (by rw [Nat.pow_succ]; omega)
      rw [List.length_cons, show k + (t.length + 1) = k + 1 + t.length by omega]
      exact h2
  intro l hl
  have := gen l 0 0 hl (by decide)
  rw [Nat.zero_add] at this
  exact this
theorem numL_small {l : List Nat} (h : l.length ≤ 7) (hx : ∀ x ∈ l, x < 7) : numL l < 10000000 := Nat.lt_of_lt_of_le (numL_lt l hx) (Nat.pow_le_pow_right (by decide) h)
theorem tX7_areAlike_d {b c : Nat} {h : amH} {K : Option Value → amH → Prop} : tX7_areAlike [.ref b, .ref c] h K = ∃ (l g : List Nat), bdAt h b ∧ bdIs h.2.1 b l ∧ bdAt h c ∧ bdIs h.2.1 c g ∧ K (some (.int (amC01 (l.length = g.length ∧ numL l = numL g)))) h := rfl
/-! ReadingStages$Shelf.areAlike(LReadingStages$Shelf;LReadingStages$Shelf;)Z -/
def kX7_areAlike : Nat → Bool := fun pc => pc == 15 || pc == 21 || pc == 27 || pc == 35
def rX7_areAlike : List (Nat × amS) := [(1, 1, 0, 0, (amRecv 2 tX2_size)), (7, 1, 0, 0, (amRecv 2 tX2_size)), (16, 1, 0, 0, (amRecv 2 tX7_number)), (22, 1, 0, 0, (amRecv 2 tX7_number))]
def eX7_areAlike (ret : Option Value → amH → Nat → Nat → Prop) (F : amX) : Nat → amX := amWp cX7_areAlike kX7_areAlike (amLk rX7_areAlike) (some .boolean) 0 0 ret F
def sX7_areAlike (ret : Option Value → amH → Nat → Nat → Prop) (F : amX) : Nat → amX := amWs cX7_areAlike kX7_areAlike (amLk rX7_areAlike) (some .boolean) 0 0 ret F
theorem wX7_areAlike_0 {ret F n h} {v0 v1 st} : eX7_areAlike ret F (n + 1) 0 [v0, v1] (st) h 0 0 = (amIsR v0 ∧ eX7_areAlike ret F n 1 [v0, v1] (v0 :: st) h 0 0) := (amWp_dec rfl dX7_areAlike_0 rfl).trans rfl
theorem uX7_areAlike_0 {ret F n h} {v0 v1 st} : sX7_areAlike ret F n 0 [v0, v1] (st) h 0 0 = (amIsR v0 ∧ eX7_areAlike ret F n 1 [v0, v1] (v0 :: st) h 0 0) := (amWs_dec dX7_areAlike_0 rfl).trans rfl
theorem wX7_areAlike_1 {ret F n h} {v0 v1 x0} : eX7_areAlike ret F (n + 1) 1 [v0, v1] (.ref x0 :: []) h 0 0 = (h.1 x0 = (0, 2) ∧ tX2_size [.ref x0] h (fun v h => eX7_areAlike ret F n 6 [v0, v1] (v.toList ++ ([])) h 0 0)) := (amWp_dec rfl dX7_areAlike_1 rfl).trans (amS4 (Nat.le_of_ble_eq_true rfl) (Nat.le_of_ble_eq_true rfl) (Nat.le_of_ble_eq_true rfl) (Nat.le_of_ble_eq_true rfl))
theorem wX7_areAlike_6 {ret F n h} {v0 v1 st} : eX7_areAlike ret F (n + 1) 6 [v0, v1] (st) h 0 0 = (amIsR v1 ∧ eX7_areAlike ret F n 7 [v0, v1] (v1 :: st) h 0 0) := (amWp_dec rfl dX7_areAlike_6 rfl).trans rfl
theorem wX7_areAlike_7 {ret F n h} {v0 v1 x0 r0} : eX7_areAlike ret F (n + 1) 7 [v0, v1] (.ref x0 :: r0 :: []) h 0 0 = (h.1 x0 = (0, 2) ∧ tX2_size [.ref x0] h (fun v h => eX7_areAlike ret F n 12 [v0, v1] (v.toList ++ (r0 :: [])) h 0 0)) := (amWp_dec rfl dX7_areAlike_7 rfl).trans (amS4 (Nat.le_of_ble_eq_true rfl) (Nat.le_of_ble_eq_true rfl) (Nat.le_of_ble_eq_true rfl) (Nat.le_of_ble_eq_true rfl))
theorem wX7_areAlike_12 {ret F n h} {v0 v1 st y x} : eX7_areAlike ret F (n + 1) 12 [v0, v1] (.int y :: .int x :: st) h 0 0 = ((¬ x = y → eX7_areAlike ret F n 34 [v0, v1] (st) h 0 0) ∧ (x = y → eX7_areAlike ret F n 15 [v0, v1] (st) h 0 0)) := (amWp_dec rfl dX7_areAlike_12 rfl).trans rfl
theorem wX7_areAlike_15 {ret F n ls st h k z} : eX7_areAlike ret F (n + 1) 15 ls st h k z = F 15 ls st h k z := amWp_cut rfl
theorem uX7_areAlike_15 {ret F n h} {v0 v1 st} : sX7_areAlike ret F n 15 [v0, v1] (st) h 0 0 = (amIsR v0 ∧ eX7_areAlike ret F n 16 [v0, v1] (v0 :: st) h 0 0) := (amWs_dec dX7_areAlike_15 rfl).trans rfl
theorem wX7_areAlike_16 {ret F n h} {v0 v1 x0} : eX7_areAlike ret F (n + 1) 16 [v0, v1] (.ref x0 :: []) h 0 0 = (h.1 x0 = (0, 2) ∧ tX7_number [.ref x0] h (fun v h => eX7_areAlike ret F n 21 [v0, v1] (v.toList ++ ([])) h 0 0)) := (amWp_dec rfl dX7_areAlike_16 rfl).trans (amS4 (Nat.le_of_ble_eq_true rfl) (Nat.le_of_ble_eq_true rfl) (Nat.le_of_ble_eq_true rfl) (Nat.le_of_ble_eq_true rfl))
theorem wX7_areAlike_21 {ret F n ls st h k z} : eX7_areAlike ret F (n + 1) 21 ls st h k z = F 21 ls st h k z := amWp_cut rfl
theorem uX7_areAlike_21 {ret F n h} {v0 v1 st} : sX7_areAlike ret F n 21 [v0, v1] (st) h 0 0 = (amIsR v1 ∧ eX7_areAlike ret F n 22 [v0, v1] (v1 :: st) h 0 0) := (amWs_dec dX7_areAlike_21 rfl).trans rfl
theorem wX7_areAlike_22 {ret F n h} {v0 v1 x0 r0} : eX7_areAlike ret F (n + 1) 22 [v0, v1] (.ref x0 :: r0 :: []) h 0 0 = (h.1 x0 = (0, 2) ∧ tX7_number [.ref x0] h (fun v h => eX7_areAlike ret F n 27 [v0, v1] (v.toList ++ (r0 :: [])) h 0 0)) := (amWp_dec rfl dX7_areAlike_22 rfl).trans (amS4 (Nat.le_of_ble_eq_true rfl) (Nat.le_of_ble_eq_true rfl) (Nat.le_of_ble_eq_true rfl) (Nat.le_of_ble_eq_true rfl))
theorem wX7_areAlike_27 {ret F n ls st h k z} : eX7_areAlike ret F (n + 1) 27 ls st h k z = F 27 ls st h k z := amWp_cut rfl
theorem uX7_areAlike_27 {ret F n h} {v0 v1 st y x} : sX7_areAlike ret F n 27 [v0, v1] (.int y :: .int x :: st) h 0 0 = ((¬ x = y → eX7_areAlike ret F n 34 [v0, v1] (st) h 0 0) ∧ (x = y → eX7_areAlike ret F n 30 [v0, v1] (st) h 0 0)) := (amWs_dec dX7_areAlike_27 rfl).trans rfl
theorem wX7_areAlike_30 {ret F n h} {v0 v1 st} : eX7_areAlike ret F (n + 1) 30 [v0, v1] (st) h 0 0 = (eX7_areAlike ret F n 31 [v0, v1] (.int (nI 1) :: st) h 0 0) := (amWp_dec rfl dX7_areAlike_30 rfl).trans rfl
theorem wX7_areAlike_31 {ret F n h} {v0 v1 st} : eX7_areAlike ret F (n + 1) 31 [v0, v1] (st) h 0 0 = (eX7_areAlike ret F n 35 [v0, v1] (st) h 0 0) := (amWp_dec rfl dX7_areAlike_31 rfl).trans rfl
theorem wX7_areAlike_34 {ret F n h} {v0 v1 st} : eX7_areAlike ret F (n + 1) 34 [v0, v1] (st) h 0 0 = (eX7_areAlike ret F n 35 [v0, v1] (.int (nI 0) :: st) h 0 0) := (amWp_dec rfl dX7_areAlike_34 rfl).trans rfl
theorem wX7_areAlike_35 {ret F n ls st h k z} : eX7_areAlike ret F (n + 1) 35 ls st h k z = F 35 ls st h k z := amWp_cut rfl
theorem uX7_areAlike_35 {ret F n h} {v0 v1 x} : sX7_areAlike ret F n 35 [v0, v1] ([.int x]) h 0 0 = (narrow .boolean (.int x) = .int x ∧ ret (some (.int x)) h 0 0) := (amWs_dec dX7_areAlike_35 rfl).trans (amRetTy)
theorem evX7_areAlike (l : Launch) (G : amG) : ∀ pc S i sz, amLk rX7_areAlike pc = some S → decode cX7_areAlike pc = .ok (i, sz) → amSiteP pc G l yX7_areAlike.cls yX7_areAlike.name yX7_areAlike.desc (amRm 3 0 0) i sz S.1 S.2.1 S.2.2.1 S.2.2.2 := amLk_ok (by
  refine List.forall_mem_cons.mpr ⟨⟨_, _, dX7_areAlike_1, amSite.P (amSiteF (C := RX2) (x := ⟨"ReadingStages$Shelf", "size", "()I"⟩) (metX2_size l G) rfl (by decide) (by decide) (lw_app (by intro w hw; simp only [List.mem_cons, List.not_mem_nil, or_false] at hw; rcases hw with e | e | e | e <;> rw [e] <;> first | exact q406 | exact q409 | exact q411 | exact q88) (lw_meth q413)) (List.mem_of_getElem? (i := 0) rfl) ⟨_, rfl, rfl⟩ ⟨by decide +kernel, by decide +kernel, by decide +kernel⟩)⟩, ?_⟩
  refine List.forall_mem_cons.mpr ⟨⟨_, _, dX7_areAlike_7, amSite.P (amSiteF (C := RX2) (x := ⟨"ReadingStages$Shelf", "size", "()I"⟩) (metX2_size l G) rfl (by decide) (by decide) (lw_app (by intro w hw; simp only [List.mem_cons, List.not_mem_nil, or_false] at hw; rcases hw with e | e | e | e <;> rw [e] <;> first | exact q406 | exact q409 | exact q411 | exact q88) (lw_meth q413)) (List.mem_of_getElem? (i := 0) rfl) ⟨_, rfl, rfl⟩ ⟨by decide +kernel, by decide +kernel, by decide +kernel⟩)⟩, ?_⟩
  refine List.forall_mem_cons.mpr ⟨⟨_, _, dX7_areAlike_16, amSite.P (amSiteDF (C := RX2) (x := ⟨"ReadingStages$Shelf", "number", "()I"⟩) (metX7_number l G) rfl (by decide) (by decide) q517 q99 q515 q961 (List.mem_of_getElem? (i := 12) rfl) (List.mem_of_getElem? (i := 18) rfl) (List.mem_of_getElem? (i := 3) rfl) (List.mem_of_getElem? (i := 15) rfl) (List.mem_of_getElem? (i := 20) rfl) ⟨_, rfl, rfl⟩ ⟨by decide +kernel, by decide +kernel, by decide +kernel⟩)⟩, ?_⟩
  refine List.forall_mem_cons.mpr ⟨⟨_, _, dX7_areAlike_22, amSite.P (amSiteDF (C := RX2) (x := ⟨"ReadingStages$Shelf", "number", "()I"⟩) (metX7_number l G) rfl (by decide) (by decide) q517 q99 q515 q961 (List.mem_of_getElem? (i := 12) rfl) (List.mem_of_getElem? (i := 18) rfl) (List.mem_of_getElem? (i := 3) rfl) (List.mem_of_getElem? (i := 15) rfl) (List.mem_of_getElem? (i := 20) rfl) ⟨_, rfl, rfl⟩ ⟨by decide +kernel, by decide +kernel, by decide +kernel⟩)⟩, ?_⟩
  exact fun _ h => absurd h List.not_mem_nil)
theorem goX7_areAlike {ret F} (hF : amCld cX7_areAlike kX7_areAlike (amLk rX7_areAlike) (some .boolean) 0 0 ret F) (n : Nat) {pc ls st h k z} (q : sX7_areAlike ret F n pc ls st h k z) : F pc ls st h k z := hF.1 n pc ls st h k z q
theorem metX7_areAlike (l : Launch) (G : amG) : amMet l G yX7_areAlike (ws_ yX7_areAlike cX7_areAlike 2 (some .boolean)) 3 0 0 tX7_areAlike := by
  refine amMet_of (cut := kX7_areAlike) (by decide +kernel) (evX7_areAlike l G) ?_
  intro as h K hT
  match as, hT with
  | [.ref b, .ref c], ⟨l, g, hb, hl, hc, hg, hK⟩ =>
  refine ⟨Nat.le_of_ble_eq_true rfl, fun F hF => ?_⟩
  show F 0 [.ref b, .ref c] [] h 0 0
  obtain ⟨b, rfl⟩ : ∃ i : Nat, i = b := ⟨_, rfl⟩
  obtain ⟨c, rfl⟩ : ∃ i : Nat, i = c := ⟨_, rfl⟩
  have e1 := hb.1
  have e2 := hc.1
  have i3 := hl.2.2.1
  have j3 := hg.2.2.1
  have l7 := hl.1
  have g7 := hg.1
  have n1 := numL_small hl.1 hl.2.1
  have n2 := numL_small hg.1 hg.2.1
  have fin : ∀ c0 : Int32, c0 = amC01 (l.length = g.length ∧ numL l = numL g) → F 35 [.ref b, .ref c] [.int c0] h 0 0 := by
    intro c0 e0
    subst e0
    refine goX7_areAlike hF 30 ?_
    simp (disch := omega) only [wX7_areAlike_0, uX7_areAlike_0, wX7_areAlike_1, wX7_areAlike_6, wX7_areAlike_7, wX7_areAlike_12, wX7_areAlike_15, uX7_areAlike_15, wX7_areAlike_16, wX7_areAlike_21, uX7_areAlike_21, wX7_areAlike_22, wX7_areAlike_27, uX7_areAlike_27, wX7_areAlike_30, wX7_areAlike_31, wX7_areAlike_34, wX7_areAlike_35, uX7_areAlike_35, amSI_1, amSI_2, amSI_3, amSI_s, amU_at, amIsR_ref, amIsR_null, amIsR_rf, amRf_some, amRf_none, amClr_int, amClr_ref, amClr_null, amClr_long, amClr_ra, amClr_rf, amFit_int, amFit_oref, amFit_aref, amFit_onull, amFit_anull, amOptSome, amOptNone, List.cons_append, List.nil_append, true_and, and_true, true_implies, not_true_eq_false, not_false_eq_true, false_implies, and_self, Nat.add_zero, Nat.zero_add, ne_eq, Prod.mk.injEq, amC01_0, amC01_1, amC01_nb, amNb0, amNb1, amTcpI_d, Nat.reduceLeDiff, Nat.reduceAdd, Nat.reduceSub, Nat.reduceEqDiff, Nat.le_refl, amN0le]
    exact amRet.of (by decide) (by decide) hK
  refine goX7_areAlike hF 30 ?_
  simp (disch := omega) only [wX7_areAlike_0, uX7_areAlike_0, wX7_areAlike_1, wX7_areAlike_6, wX7_areAlike_7, wX7_areAlike_12, wX7_areAlike_15, uX7_areAlike_15, wX7_areAlike_16, wX7_areAlike_21, uX7_areAlike_21, wX7_areAlike_22, wX7_areAlike_27, uX7_areAlike_27, wX7_areAlike_30, wX7_areAlike_31, wX7_areAlike_34, wX7_areAlike_35, uX7_areAlike_35, amSI_1, amSI_2, amSI_3, amSI_s, amU_at, amIsR_ref, amIsR_null, amIsR_rf, amRf_some, amRf_none, amClr_int, amClr_ref, amClr_null, amClr_long, amClr_ra, amClr_rf, amFit_int, amFit_oref, amFit_aref, amFit_onull, amFit_anull, amOptSome, amOptNone, List.cons_append, List.nil_append, true_and, and_true, true_implies, not_true_eq_false, not_false_eq_true, false_implies, and_self, Nat.add_zero, Nat.zero_add, ne_eq, Prod.mk.injEq, amC01_0, amC01_1, amC01_nb, amNb0, amNb1, amTcpI_d, Nat.reduceLeDiff, Nat.reduceAdd, Nat.reduceSub, Nat.reduceEqDiff, Nat.le_refl, amN0le, tX2_size_d, e1, e2, i3, j3, amEqI]
  refine ⟨fun q => fin _ (amC01_f (fun z => q z.1)).symm, fun q => ?_⟩
  refine goX7_areAlike hF 30 ?_
  simp (disch := omega) only [wX7_areAlike_0, uX7_areAlike_0, wX7_areAlike_1, wX7_areAlike_6, wX7_areAlike_7, wX7_areAlike_12, wX7_areAlike_15, uX7_areAlike_15, wX7_areAlike_16, wX7_areAlike_21, uX7_areAlike_21, wX7_areAlike_22, wX7_areAlike_27, uX7_areAlike_27, wX7_areAlike_30, wX7_areAlike_31, wX7_areAlike_34, wX7_areAlike_35, uX7_areAlike_35, amSI_1, amSI_2, amSI_3, amSI_s, amU_at, amIsR_ref, amIsR_null, amIsR_rf, amRf_some, amRf_none, amClr_int, amClr_ref, amClr_null, amClr_long, amClr_ra, amClr_rf, amFit_int, amFit_oref, amFit_aref, amFit_onull, amFit_anull, amOptSome, amOptNone, List.cons_append, List.nil_append, true_and, and_true, true_implies, not_true_eq_false, not_false_eq_true, false_implies, and_self, Nat.add_zero, Nat.zero_add, ne_eq, Prod.mk.injEq, amC01_0, amC01_1, amC01_nb, amNb0, amNb1, amTcpI_d, Nat.reduceLeDiff, Nat.reduceAdd, Nat.reduceSub, Nat.reduceEqDiff, Nat.le_refl, amN0le, tX7_number_d, e1, e2]
  refine ⟨l, hb, hl, ?_⟩
  refine goX7_areAlike hF 30 ?_
  simp (disch := omega) only [wX7_areAlike_0, uX7_areAlike_0, wX7_areAlike_1, wX7_areAlike_6, wX7_areAlike_7, wX7_areAlike_12, wX7_areAlike_15, uX7_areAlike_15, wX7_areAlike_16, wX7_areAlike_21, uX7_areAlike_21, wX7_areAlike_22, wX7_areAlike_27, uX7_areAlike_27, wX7_areAlike_30, wX7_areAlike_31, wX7_areAlike_34, wX7_areAlike_35, uX7_areAlike_35, amSI_1, amSI_2, amSI_3, amSI_s, amU_at, amIsR_ref, amIsR_null, amIsR_rf, amRf_some, amRf_none, amClr_int, amClr_ref, amClr_null, amClr_long, amClr_ra, amClr_rf, amFit_int, amFit_oref, amFit_aref, amFit_onull, amFit_anull, amOptSome, amOptNone, List.cons_append, List.nil_append, true_and, and_true, true_implies, not_true_eq_false, not_false_eq_true, false_implies, and_self, Nat.add_zero, Nat.zero_add, ne_eq, Prod.mk.injEq, amC01_0, amC01_1, amC01_nb, amNb0, amNb1, amTcpI_d, Nat.reduceLeDiff, Nat.reduceAdd, Nat.reduceSub, Nat.reduceEqDiff, Nat.le_refl, amN0le, tX7_number_d, e1, e2]
  refine ⟨g, hc, hg, ?_⟩
  refine goX7_areAlike hF 30 ?_
  simp (disch := omega) only [wX7_areAlike_0, uX7_areAlike_0, wX7_areAlike_1, wX7_areAlike_6, wX7_areAlike_7, wX7_areAlike_12, wX7_areAlike_15, uX7_areAlike_15, wX7_areAlike_16, wX7_areAlike_21, uX7_areAlike_21, wX7_areAlike_22, wX7_areAlike_27, uX7_areAlike_27, wX7_areAlike_30, wX7_areAlike_31, wX7_areAlike_34, wX7_areAlike_35, uX7_areAlike_35, amSI_1, amSI_2, amSI_3, amSI_s, amU_at, amIsR_ref, amIsR_null, amIsR_rf, amRf_some, amRf_none, amClr_int, amClr_ref, amClr_null, amClr_long, amClr_ra, amClr_rf, amFit_int, amFit_oref, amFit_aref, amFit_onull, amFit_anull, amOptSome, amOptNone, List.cons_append, List.nil_append, true_and, and_true, true_implies, not_true_eq_false, not_false_eq_true, false_implies, and_self, Nat.add_zero, Nat.zero_add, ne_eq, Prod.mk.injEq, amC01_0, amC01_1, amC01_nb, amNb0, amNb1, amTcpI_d, Nat.reduceLeDiff, Nat.reduceAdd, Nat.reduceSub, Nat.reduceEqDiff, Nat.le_refl, amN0le, amEqI]
  refine ⟨fun r => fin _ (amC01_f (fun z => r z.2)).symm, fun r => fin _ (amC01_t ⟨q, r⟩).symm⟩
/-- a book is lost: those behind it get numbers less -/
def lessL (k : Nat) (l : List Nat) : List Nat := l.map (fun x => if k < x then x - 1 else x)
def lessN (k x : Nat) : Nat := if k < x then x - 1 else x
theorem lessL_getD (k : Nat) (l : List Nat) (i : Nat) (h : i < l.length) : (lessL k l).getD i 0 = lessN k (l.getD i 0) := by
  simp [lessL, lessN, List.getD_eq_getElem?_getD, h]
theorem lessL_len (k : Nat) (l : List Nat) : (lessL k l).length = l.length := by simp [lessL]
theorem lessN_lt {k x : Nat} (h : x < 7) : lessN k x < 7 := by unfold lessN; split <;> omega
theorem lessL_lt {k : Nat} {l : List Nat} (h : ∀ x ∈ l, x < 7) : ∀ x ∈ lessL k l, x < 7 := by
  intro x hx
  simp only [lessL, List.mem_map] at hx
  obtain ⟨y, hy, rfl⟩ := hx
  exact lessN_lt (h y hy)
def tX2_lose : amT := fun as h K => match as with
  | [.ref b, .int x0] => ∃ (l : List Nat) (x : Nat), x0 = nI x ∧ bdAt h b ∧ amN0 ≤ b ∧ bdIs h.2.1 b l ∧ l.Nodup ∧ x ∈ l ∧ ∀ m', bdIs m' b (lessL x (l.eraseIdx (l.idxOf x))) → bdFr h.2.1 m' b → K none (amSI h m')
  | _ => False
/-! ReadingStages$Board.lose(I)V -/
def kX2_lose : Nat → Bool := fun pc => pc == 6 || pc == 9 || pc == 11
def rX2_lose : List (Nat × amS) := [(3, 2, 0, 0, (amRecv 2 tX7_find)), (6, 2, 0, 0, (amRecv 2 tX2_take)), (13, 1, 0, 0, amTget 2 1), (20, 1, 0, 0, amTget 2 0), (27, 1, 0, 0, amTget 2 0)]
def eX2_lose (ret : Option Value → amH → Nat → Nat → Prop) (F : amX) : Nat → amX := amWp cX2_lose kX2_lose (amLk rX2_lose) none 0 0 ret F
def sX2_lose (ret : Option Value → amH → Nat → Nat → Prop) (F : amX) : Nat → amX := amWs cX2_lose kX2_lose (amLk rX2_lose) none 0 0 ret F
theorem wX2_lose_0 {ret F n h} {v0 v1 v2 st} : eX2_lose ret F (n + 1) 0 [v0, v1, v2] (st) h 0 0 = (amIsR v0 ∧ eX2_lose ret F n 1 [v0, v1, v2] (v0 :: st) h 0 0) := (amWp_dec rfl dX2_lose_0 rfl).trans rfl
theorem uX2_lose_0 {ret F n h} {v0 v1 v2 st} : sX2_lose ret F n 0 [v0, v1, v2] (st) h 0 0 = (amIsR v0 ∧ eX2_lose ret F n 1 [v0, v1, v2] (v0 :: st) h 0 0) := (amWs_dec dX2_lose_0 rfl).trans rfl
theorem wX2_lose_1 {ret F n h} {v0 v1 v2 st} : eX2_lose ret F (n + 1) 1 [v0, v1, v2] (st) h 0 0 = (amIsR v0 ∧ eX2_lose ret F n 2 [v0, v1, v2] (v0 :: st) h 0 0) := (amWp_dec rfl dX2_lose_1 rfl).trans rfl
theorem wX2_lose_2 {ret F n h} {v0 v2 st x} : eX2_lose ret F (n + 1) 2 [v0, .int x, v2] (st) h 0 0 = (eX2_lose ret F n 3 [v0, .int x, v2] (.int x :: st) h 0 0) := (amWp_dec rfl dX2_lose_2 rfl).trans rfl
theorem wX2_lose_3 {ret F n h} {v0 v1 v2 x1 x0 r0} : eX2_lose ret F (n + 1) 3 [v0, v1, v2] (.int x1 :: .ref x0 :: r0 :: []) h 0 0 = (h.1 x0 = (0, 2) ∧ tX7_find [.ref x0, .int x1] h (fun v h => eX2_lose ret F n 6 [v0, v1, v2] (v.toList ++ (r0 :: [])) h 0 0)) := (amWp_dec rfl dX2_lose_3 rfl).trans (amS4 (Nat.le_of_ble_eq_true rfl) (Nat.le_of_ble_eq_true rfl) (Nat.le_of_ble_eq_true rfl) (Nat.le_of_ble_eq_true rfl))
theorem wX2_lose_6 {ret F n ls st h k z} : eX2_lose ret F (n + 1) 6 ls st h k z = F 6 ls st h k z := amWp_cut rfl
theorem uX2_lose_6 {ret F n h} {v0 v1 v2 x1 x0} : sX2_lose ret F n 6 [v0, v1, v2] (.int x1 :: .ref x0 :: []) h 0 0 = (h.1 x0 = (0, 2) ∧ tX2_take [.ref x0, .int x1] h (fun v h => eX2_lose ret F n 9 [v0, v1, v2] (v.toList ++ ([])) h 0 0)) := (amWs_dec dX2_lose_6 rfl).trans (amS4 (Nat.le_of_ble_eq_true rfl) (Nat.le_of_ble_eq_true rfl) (Nat.le_of_ble_eq_true rfl) (Nat.le_of_ble_eq_true rfl))
theorem wX2_lose_9 {ret F n ls st h k z} : eX2_lose ret F (n + 1) 9 ls st h k z = F 9 ls st h k z := amWp_cut rfl
theorem uX2_lose_9 {ret F n h} {v0 v1 v2 st} : sX2_lose ret F n 9 [v0, v1, v2] (st) h 0 0 = (eX2_lose ret F n 10 [v0, v1, v2] (.int (nI 0) :: st) h 0 0) := (amWs_dec dX2_lose_9 rfl).trans rfl
theorem wX2_lose_10 {ret F n h} {v0 v1 v2 st x} : eX2_lose ret F (n + 1) 10 [v0, v1, v2] (.int x :: st) h 0 0 = (eX2_lose ret F n 11 [v0, amClr v1, .int x] (st) h 0 0) := (amWp_dec rfl dX2_lose_10 rfl).trans (amTrue (Nat.le_of_ble_eq_true rfl))
theorem wX2_lose_11 {ret F n ls st h k z} : eX2_lose ret F (n + 1) 11 ls st h k z = F 11 ls st h k z := amWp_cut rfl
theorem uX2_lose_11 {ret F n h} {v0 v1 st x} : sX2_lose ret F n 11 [v0, v1, .int x] (st) h 0 0 = (eX2_lose ret F n 12 [v0, v1, .int x] (.int x :: st) h 0 0) := (amWs_dec dX2_lose_11 rfl).trans rfl
theorem wX2_lose_12 {ret F n h} {v0 v1 v2 st} : eX2_lose ret F (n + 1) 12 [v0, v1, v2] (st) h 0 0 = (amIsR v0 ∧ eX2_lose ret F n 13 [v0, v1, v2] (v0 :: st) h 0 0) := (amWp_dec rfl dX2_lose_12 rfl).trans rfl
theorem wX2_lose_13 {ret F n h} {v0 v1 v2 r0 a} : eX2_lose ret F (n + 1) 13 [v0, v1, v2] (.ref a :: r0 :: []) h 0 0 = (h.1 a = (0, 2) ∧ eX2_lose ret F n 16 [v0, v1, v2] (.int (h.2.1 a 1) :: r0 :: []) h 0 0) := (amWp_dec rfl dX2_lose_13 rfl).trans (amS4 (Nat.le_of_ble_eq_true rfl) (Nat.le_of_ble_eq_true rfl) (Nat.le_of_ble_eq_true rfl) (Nat.le_of_ble_eq_true rfl))
theorem wX2_lose_16 {ret F n h} {v0 v1 v2 st y x} : eX2_lose ret F (n + 1) 16 [v0, v1, v2] (.int y :: .int x :: st) h 0 0 = ((y ≤ x → eX2_lose ret F n 50 [v0, v1, v2] (st) h 0 0) ∧ (¬ y ≤ x → eX2_lose ret F n 19 [v0, v1, v2] (st) h 0 0)) := (amWp_dec rfl dX2_lose_16 rfl).trans rfl
theorem wX2_lose_19 {ret F n h} {v0 v1 v2 st} : eX2_lose ret F (n + 1) 19 [v0, v1, v2] (st) h 0 0 = (amIsR v0 ∧ eX2_lose ret F n 20 [v0, v1, v2] (v0 :: st) h 0 0) := (amWp_dec rfl dX2_lose_19 rfl).trans rfl
theorem wX2_lose_20 {ret F n h} {v0 v1 v2 a} : eX2_lose ret F (n + 1) 20 [v0, v1, v2] (.ref a :: []) h 0 0 = (h.1 a = (0, 2) ∧ eX2_lose ret F n 23 [v0, v1, v2] (va_rf (h.2.2.2.1 a 0) :: []) h 0 0) := (amWp_dec rfl dX2_lose_20 rfl).trans (amS4 (Nat.le_of_ble_eq_true rfl) (Nat.le_of_ble_eq_true rfl) (Nat.le_of_ble_eq_true rfl) (Nat.le_of_ble_eq_true rfl))
theorem wX2_lose_23 {ret F n h} {v0 v1 st x} : eX2_lose ret F (n + 1) 23 [v0, v1, .int x] (st) h 0 0 = (eX2_lose ret F n 24 [v0, v1, .int x] (.int x :: st) h 0 0) := (amWp_dec rfl dX2_lose_23 rfl).trans rfl
theorem wX2_lose_24 {ret F n h} {v0 v1 v2 st x a} : eX2_lose ret F (n + 1) 24 [v0, v1, v2] (.int x :: .ref a :: st) h 0 0 = (eX2_lose ret F n 25 [v0, v1, v2] (.int x :: .ref a :: .int x :: .ref a :: st) h 0 0) := (amWp_dec rfl dX2_lose_24 rfl).trans (amS2 rfl rfl)
theorem wX2_lose_25 {ret F n h} {v0 v1 v2 st x a} : eX2_lose ret F (n + 1) 25 [v0, v1, v2] (.int x :: .ref a :: st) h 0 0 = ((h.1 a).1 = 2 ∧ vp_in x (h.1 a).2 ∧ eX2_lose ret F n 26 [v0, v1, v2] (.int (h.2.1 a x.toNatClampNeg) :: st) h 0 0) := (amWp_dec rfl dX2_lose_25 rfl).trans rfl
theorem wX2_lose_26 {ret F n h} {v0 v1 v2 st} : eX2_lose ret F (n + 1) 26 [v0, v1, v2] (st) h 0 0 = (amIsR v0 ∧ eX2_lose ret F n 27 [v0, v1, v2] (v0 :: st) h 0 0) := (amWp_dec rfl dX2_lose_26 rfl).trans rfl
theorem wX2_lose_27 {ret F n h} {v0 v1 v2 r0 r1 r2 a} : eX2_lose ret F (n + 1) 27 [v0, v1, v2] (.ref a :: r0 :: r1 :: r2 :: []) h 0 0 = (h.1 a = (0, 2) ∧ eX2_lose ret F n 30 [v0, v1, v2] (va_rf (h.2.2.2.1 a 0) :: r0 :: r1 :: r2 :: []) h 0 0) := (amWp_dec rfl dX2_lose_27 rfl).trans (amS4 (Nat.le_of_ble_eq_true rfl) (Nat.le_of_ble_eq_true rfl) (Nat.le_of_ble_eq_true rfl) (Nat.le_of_ble_eq_true rfl))
theorem wX2_lose_30 {ret F n h} {v0 v1 st x} : eX2_lose ret F (n + 1) 30 [v0, v1, .int x] (st) h 0 0 = (eX2_lose ret F n 31 [v0, v1, .int x] (.int x :: st) h 0 0) := (amWp_dec rfl dX2_lose_30 rfl).trans rfl
theorem wX2_lose_31 {ret F n h} {v0 v1 v2 st x a} : eX2_lose ret F (n + 1) 31 [v0, v1, v2] (.int x :: .ref a :: st) h 0 0 = ((h.1 a).1 = 2 ∧ vp_in x (h.1 a).2 ∧ eX2_lose ret F n 32 [v0, v1, v2] (.int (h.2.1 a x.toNatClampNeg) :: st) h 0 0) := (amWp_dec rfl dX2_lose_31 rfl).trans rfl
theorem wX2_lose_32 {ret F n h} {v0 v2 st x} : eX2_lose ret F (n + 1) 32 [v0, .int x, v2] (st) h 0 0 = (eX2_lose ret F n 33 [v0, .int x, v2] (.int x :: st) h 0 0) := (amWp_dec rfl dX2_lose_32 rfl).trans rfl
theorem wX2_lose_33 {ret F n h} {v0 v1 v2 st y x} : eX2_lose ret F (n + 1) 33 [v0, v1, v2] (.int y :: .int x :: st) h 0 0 = ((x ≤ y → eX2_lose ret F n 40 [v0, v1, v2] (st) h 0 0) ∧ (¬ x ≤ y → eX2_lose ret F n 36 [v0, v1, v2] (st) h 0 0)) := (amWp_dec rfl dX2_lose_33 rfl).trans rfl
theorem wX2_lose_36 {ret F n h} {v0 v1 v2 st} : eX2_lose ret F (n + 1) 36 [v0, v1, v2] (st) h 0 0 = (eX2_lose ret F n 37 [v0, v1, v2] (.int (nI 1) :: st) h 0 0) := (amWp_dec rfl dX2_lose_36 rfl).trans rfl
theorem wX2_lose_37 {ret F n h} {v0 v1 v2 st} : eX2_lose ret F (n + 1) 37 [v0, v1, v2] (st) h 0 0 = (eX2_lose ret F n 41 [v0, v1, v2] (st) h 0 0) := (amWp_dec rfl dX2_lose_37 rfl).trans rfl
theorem wX2_lose_40 {ret F n h} {v0 v1 v2 st} : eX2_lose ret F (n + 1) 40 [v0, v1, v2] (st) h 0 0 = (eX2_lose ret F n 41 [v0, v1, v2] (.int (nI 0) :: st) h 0 0) := (amWp_dec rfl dX2_lose_40 rfl).trans rfl
theorem wX2_lose_41 {ret F n h} {v0 v1 v2 st y x} : eX2_lose ret F (n + 1) 41 [v0, v1, v2] (.int y :: .int x :: st) h 0 0 = (eX2_lose ret F n 42 [v0, v1, v2] (.int (x - y) :: st) h 0 0) := (amWp_dec rfl dX2_lose_41 rfl).trans rfl
theorem wX2_lose_42 {ret F n h} {v0 v1 v2 st x} : eX2_lose ret F (n + 1) 42 [v0, v1, v2] (.int x :: st) h 0 0 = (eX2_lose ret F n 43 [v0, v1, v2] (.int x.toInt8.toInt32 :: st) h 0 0) := (amWp_dec rfl dX2_lose_42 rfl).trans rfl
theorem wX2_lose_43 {ret F n h} {v0 v1 v2 st y x a} : eX2_lose ret F (n + 1) 43 [v0, v1, v2] (.int y :: .int x :: .ref a :: st) h 0 0 = ((h.1 a).1 = 2 ∧ vp_in x (h.1 a).2 ∧ amN0 ≤ a ∧ eX2_lose ret F n 44 [v0, v1, v2] (st) (amSI h (amU h.2.1 a x.toNatClampNeg (vp_nar .byte y))) 0 0) := (amWp_dec rfl dX2_lose_43 rfl).trans rfl
theorem wX2_lose_44 {ret F n h} {v0 v1 st x} : eX2_lose ret F (n + 1) 44 [v0, v1, .int x] (st) h 0 0 = (eX2_lose ret F n 47 [v0, amClr v1, .int (x + nI 1)] (st) h 0 0) := (amWp_dec rfl dX2_lose_44 rfl).trans rfl
theorem wX2_lose_47 {ret F n h} {v0 v1 v2 st} : eX2_lose ret F (n + 1) 47 [v0, v1, v2] (st) h 0 0 = (eX2_lose ret F n 11 [v0, v1, v2] (st) h 0 0) := (amWp_dec rfl dX2_lose_47 rfl).trans rfl
theorem wX2_lose_50 {ret F n h} {v0 v1 v2} : eX2_lose ret F (n + 1) 50 [v0, v1, v2] ([]) h 0 0 = (ret none h 0 0) := (amWp_dec rfl dX2_lose_50 rfl).trans (amTrue rfl)
theorem evX2_lose (l : Launch) (G : amG) : ∀ pc S i sz, amLk rX2_lose pc = some S → decode cX2_lose pc = .ok (i, sz) → amSiteP pc G l yX2_lose.cls yX2_lose.name yX2_lose.desc (amRm 3 0 0) i sz S.1 S.2.1 S.2.2.1 S.2.2.2 := amLk_ok (by
  refine List.forall_mem_cons.mpr ⟨⟨_, _, dX2_lose_3, amSite.P (amSiteD (C := RX2) (owner := "ReadingStages$Shelf") (x := ⟨"ReadingStages$Board", "find", "(I)I"⟩) (metX7_find l G) rfl (by decide) (by decide) q573 q99 q571 (List.mem_of_getElem? (i := 8) rfl) (List.mem_of_getElem? (i := 10) rfl) (List.mem_of_getElem? (i := 13) rfl) (List.mem_of_getElem? (i := 1) rfl) ⟨_, rfl, rfl⟩ ⟨by decide +kernel, by decide +kernel, by decide +kernel⟩)⟩, ?_⟩
  refine List.forall_mem_cons.mpr ⟨⟨_, _, dX2_lose_6, amSite.P (amSiteV (C := RX2) (metX2_take l G) rfl (by decide) (by decide) (lw_V q913 q495 q496 q88 q497) ⟨_, rfl, rfl⟩ ⟨rfl, by decide +kernel, by decide +kernel, by decide +kernel⟩)⟩, ?_⟩
  refine List.forall_mem_cons.mpr ⟨⟨_, _, dX2_lose_13, amSite.P (amSiteGet ⟨_, rfl, by decide, Or.inl q136⟩)⟩, ?_⟩
  refine List.forall_mem_cons.mpr ⟨⟨_, _, dX2_lose_20, amSite.P (amSiteGet ⟨_, rfl, by decide, Or.inl q135⟩)⟩, ?_⟩
  refine List.forall_mem_cons.mpr ⟨⟨_, _, dX2_lose_27, amSite.P (amSiteGet ⟨_, rfl, by decide, Or.inl q135⟩)⟩, ?_⟩
  exact fun _ h => absurd h List.not_mem_nil)
theorem goX2_lose {ret F} (hF : amCld cX2_lose kX2_lose (amLk rX2_lose) none 0 0 ret F) (n : Nat) {pc ls st h k z} (q : sX2_lose ret F n pc ls st h k z) : F pc ls st h k z := hF.1 n pc ls st h k z q
theorem metX2_lose (l : Launch) (G : amG) : amMet l G yX2_lose (ws_ yX2_lose cX2_lose 3 none) 3 0 0 tX2_lose := by
  refine amMet_of (cut := kX2_lose) (by decide +kernel) (evX2_lose l G) ?_
  intro as h K hT
  match as, hT with
  | [.ref b, .int x0], ⟨l, x, e0, hb, hb0, hl, hn, hm, hK⟩ =>
  refine ⟨Nat.le_of_ble_eq_true rfl, fun F hF => ?_⟩
  show F 0 [.ref b, .int x0, .retAddr 0] [] h 0 0
  obtain ⟨b, rfl⟩ : ∃ i : Nat, i = b := ⟨_, rfl⟩
  subst e0
  have e1 := hb.1
  have e2 := hb.2.1
  have e3 := hb.2.2
  have hb9 : amN0 ≤ b + 1 := Nat.le_succ_of_le hb0
  have hx7 := hl.2.1 x hm
  have l7 := hl.1
  have hix := List.idxOf_lt_length_of_mem hm
  generalize hg : l.eraseIdx (l.idxOf x) = g at hK
  have loop : ∀ t p m, p + t = g.length → g.length ≤ 7 → (∀ y ∈ g, y < 7) → m b 1 = nI g.length → (∀ j, j < g.length → m (b + 1) j = nI (if j < p then lessN x (g.getD j 0) else g.getD j 0)) → bdFr h.2.1 m b → F 11 [.ref b, .int (nI x), .int (nI p)] [] (amSI h m) 0 0 := by
    intro t
    induction t with
    | zero =>
      intro p m h1 h3 h4 h5 h6 h7
      have q : (g.length ≤ p) = True := eq_true (by omega)
      refine goX2_lose hF 40 ?_
      simp (disch := omega) only [wX2_lose_0, uX2_lose_0, wX2_lose_1, wX2_lose_2, wX2_lose_3, wX2_lose_6, uX2_lose_6, wX2_lose_9, uX2_lose_9, wX2_lose_10, wX2_lose_11, uX2_lose_11, wX2_lose_12, wX2_lose_13, wX2_lose_16, wX2_lose_19, wX2_lose_20, wX2_lose_23, wX2_lose_24, wX2_lose_25, wX2_lose_26, wX2_lose_27, wX2_lose_30, wX2_lose_31, wX2_lose_32, wX2_lose_33, wX2_lose_36, wX2_lose_37, wX2_lose_40, wX2_lose_41, wX2_lose_42, wX2_lose_43, wX2_lose_44, wX2_lose_47, wX2_lose_50, amSI_1, amSI_2, amSI_3, amSI_s, amU_at, amIsR_ref, amIsR_null, amIsR_rf, amRf_some, amRf_none, amClr_int, amClr_ref, amClr_null, amClr_long, amClr_ra, amClr_rf, amFit_int, amFit_oref, amFit_aref, amFit_onull, amFit_anull, amOptSome, amOptNone, List.cons_append, List.nil_append, true_and, and_true, true_implies, not_true_eq_false, not_false_eq_true, false_implies, and_self, Nat.add_zero, Nat.zero_add, ne_eq, Prod.mk.injEq, amC01_0, amC01_1, amC01_nb, amNb0, amNb1, amTcpI_d, Nat.reduceLeDiff, Nat.reduceAdd, Nat.reduceSub, Nat.reduceEqDiff, Nat.le_refl, amN0le, e1, h5, amLeI, q]
      refine amRet.of (by decide) (by decide) (hK m ⟨?_, lessL_lt h4, ?_, ?_⟩ h7)
      · rw [lessL_len]; exact h3
      · rw [lessL_len]; exact h5
      · intro i hi
        rw [lessL_len] at hi
        rw [lessL_getD _ _ _ hi, h6 i hi, if_pos (by omega)]
    | succ t ih =>
      intro p m h1 h3 h4 h5 h6 h7
      have q : (g.length ≤ p) = False := eq_false (by omega)
      have hp7 := h4 _ (getD_mem (l := g) (p := p) (by omega))
      have h6p := h6 p (by omega)
      rw [if_neg (Nat.lt_irrefl p)] at h6p
      have nx : F 11 [.ref b, .int (nI x), .int (nI (p + 1))] [] (amSI h (amU m (b + 1) p (nI (lessN x (g.getD p 0))))) 0 0 := by
        refine ih (p + 1) _ (by omega) h3 h4 ?_ ?_ ?_
        · rw [amU_ne (Nat.succ_ne_self b).symm]; exact h5
        · intro j hj
          by_cases e : j = p
          · subst e
            rw [amU_at, if_pos (by omega)]
          · rw [amU_nj e, h6 j hj]
            by_cases r : j < p
            · rw [if_pos r, if_pos (by omega)]
            · rw [if_neg r, if_neg (by omega)]
        · intro i hi
          rw [← h7 i hi]
          simp (disch := omega) only [amU_at, amU_ne, amU_nj, amU_neR, up_ne, up_at, amSI_2]
      refine goX2_lose hF 40 ?_
      simp (disch := omega) only [wX2_lose_0, uX2_lose_0, wX2_lose_1, wX2_lose_2, wX2_lose_3, wX2_lose_6, uX2_lose_6, wX2_lose_9, uX2_lose_9, wX2_lose_10, wX2_lose_11, uX2_lose_11, wX2_lose_12, wX2_lose_13, wX2_lose_16, wX2_lose_19, wX2_lose_20, wX2_lose_23, wX2_lose_24, wX2_lose_25, wX2_lose_26, wX2_lose_27, wX2_lose_30, wX2_lose_31, wX2_lose_32, wX2_lose_33, wX2_lose_36, wX2_lose_37, wX2_lose_40, wX2_lose_41, wX2_lose_42, wX2_lose_43, wX2_lose_44, wX2_lose_47, wX2_lose_50, amSI_1, amSI_2, amSI_3, amSI_s, amU_at, amIsR_ref, amIsR_null, amIsR_rf, amRf_some, amRf_none, amClr_int, amClr_ref, amClr_null, amClr_long, amClr_ra, amClr_rf, amFit_int, amFit_oref, amFit_aref, amFit_onull, amFit_anull, amOptSome, amOptNone, List.cons_append, List.nil_append, true_and, and_true, true_implies, not_true_eq_false, not_false_eq_true, false_implies, and_self, Nat.add_zero, Nat.zero_add, ne_eq, Prod.mk.injEq, amC01_0, amC01_1, amC01_nb, amNb0, amNb1, amTcpI_d, Nat.reduceLeDiff, Nat.reduceAdd, Nat.reduceSub, Nat.reduceEqDiff, Nat.le_refl, amN0le, e1, e2, e3, hb9, h5, h6p, amLeI, amLtI, q, amVI, amCl_nI, amAdd]
      refine ⟨fun r => ?_, fun r => ?_⟩
      · have e9 : lessN x (g.getD p 0) = g.getD p 0 := if_neg (by omega)
        rw [e9] at nx
        rw [amSub (Nat.zero_le _), Nat.sub_zero, amByte _ (by omega), amByteN _ (by omega)]
        exact nx
      · have e9 : lessN x (g.getD p 0) = g.getD p 0 - 1 := if_pos (by omega)
        rw [e9] at nx
        rw [amSub (by omega), amByte _ (by omega), amByteN _ (by omega)]
        exact nx
  refine goX2_lose hF 30 ?_
  simp (disch := omega) only [wX2_lose_0, uX2_lose_0, wX2_lose_1, wX2_lose_2, wX2_lose_3, wX2_lose_6, uX2_lose_6, wX2_lose_9, uX2_lose_9, wX2_lose_10, wX2_lose_11, uX2_lose_11, wX2_lose_12, wX2_lose_13, wX2_lose_16, wX2_lose_19, wX2_lose_20, wX2_lose_23, wX2_lose_24, wX2_lose_25, wX2_lose_26, wX2_lose_27, wX2_lose_30, wX2_lose_31, wX2_lose_32, wX2_lose_33, wX2_lose_36, wX2_lose_37, wX2_lose_40, wX2_lose_41, wX2_lose_42, wX2_lose_43, wX2_lose_44, wX2_lose_47, wX2_lose_50, amSI_1, amSI_2, amSI_3, amSI_s, amU_at, amIsR_ref, amIsR_null, amIsR_rf, amRf_some, amRf_none, amClr_int, amClr_ref, amClr_null, amClr_long, amClr_ra, amClr_rf, amFit_int, amFit_oref, amFit_aref, amFit_onull, amFit_anull, amOptSome, amOptNone, List.cons_append, List.nil_append, true_and, and_true, true_implies, not_true_eq_false, not_false_eq_true, false_implies, and_self, Nat.add_zero, Nat.zero_add, ne_eq, Prod.mk.injEq, amC01_0, amC01_1, amC01_nb, amNb0, amNb1, amTcpI_d, Nat.reduceLeDiff, Nat.reduceAdd, Nat.reduceSub, Nat.reduceEqDiff, Nat.le_refl, amN0le, tX7_find_d, e1]
  refine ⟨l, x, rfl, hb, hl, hm, hn, ?_⟩
  refine goX2_lose hF 30 ?_
  simp (disch := omega) only [wX2_lose_0, uX2_lose_0, wX2_lose_1, wX2_lose_2, wX2_lose_3, wX2_lose_6, uX2_lose_6, wX2_lose_9, uX2_lose_9, wX2_lose_10, wX2_lose_11, uX2_lose_11, wX2_lose_12, wX2_lose_13, wX2_lose_16, wX2_lose_19, wX2_lose_20, wX2_lose_23, wX2_lose_24, wX2_lose_25, wX2_lose_26, wX2_lose_27, wX2_lose_30, wX2_lose_31, wX2_lose_32, wX2_lose_33, wX2_lose_36, wX2_lose_37, wX2_lose_40, wX2_lose_41, wX2_lose_42, wX2_lose_43, wX2_lose_44, wX2_lose_47, wX2_lose_50, amSI_1, amSI_2, amSI_3, amSI_s, amU_at, amIsR_ref, amIsR_null, amIsR_rf, amRf_some, amRf_none, amClr_int, amClr_ref, amClr_null, amClr_long, amClr_ra, amClr_rf, amFit_int, amFit_oref, amFit_aref, amFit_onull, amFit_anull, amOptSome, amOptNone, List.cons_append, List.nil_append, true_and, and_true, true_implies, not_true_eq_false, not_false_eq_true, false_implies, and_self, Nat.add_zero, Nat.zero_add, ne_eq, Prod.mk.injEq, amC01_0, amC01_1, amC01_nb, amNb0, amNb1, amTcpI_d, Nat.reduceLeDiff, Nat.reduceAdd, Nat.reduceSub, Nat.reduceEqDiff, Nat.le_refl, amN0le, e1]
  refine ⟨l, l.idxOf x, rfl, hb, hb0, hl, hix, ?_⟩
  intro m' h1 h2
  rw [hg] at h1
  refine goX2_lose hF 30 ?_
  simp (disch := omega) only [wX2_lose_0, uX2_lose_0, wX2_lose_1, wX2_lose_2, wX2_lose_3, wX2_lose_6, uX2_lose_6, wX2_lose_9, uX2_lose_9, wX2_lose_10, wX2_lose_11, uX2_lose_11, wX2_lose_12, wX2_lose_13, wX2_lose_16, wX2_lose_19, wX2_lose_20, wX2_lose_23, wX2_lose_24, wX2_lose_25, wX2_lose_26, wX2_lose_27, wX2_lose_30, wX2_lose_31, wX2_lose_32, wX2_lose_33, wX2_lose_36, wX2_lose_37, wX2_lose_40, wX2_lose_41, wX2_lose_42, wX2_lose_43, wX2_lose_44, wX2_lose_47, wX2_lose_50, amSI_1, amSI_2, amSI_3, amSI_s, amU_at, amIsR_ref, amIsR_null, amIsR_rf, amRf_some, amRf_none, amClr_int, amClr_ref, amClr_null, amClr_long, amClr_ra, amClr_rf, amFit_int, amFit_oref, amFit_aref, amFit_onull, amFit_anull, amOptSome, amOptNone, List.cons_append, List.nil_append, true_and, and_true, true_implies, not_true_eq_false, not_false_eq_true, false_implies, and_self, Nat.add_zero, Nat.zero_add, ne_eq, Prod.mk.injEq, amC01_0, amC01_1, amC01_nb, amNb0, amNb1, amTcpI_d, Nat.reduceLeDiff, Nat.reduceAdd, Nat.reduceSub, Nat.reduceEqDiff, Nat.le_refl, amN0le, e1]
  refine loop g.length 0 m' (by omega) h1.1 h1.2.1 h1.2.2.1 (fun j hj => ?_) h2
  rw [if_neg (Nat.not_lt_zero j)]
  exact h1.2.2.2 j hj
