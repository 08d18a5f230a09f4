/-! orders, read; Math, Integer -/
set_option maxRecDepth 100000
theorem s_u : ∀ n, n < 32 → (((nI n).toUInt32 &&& Int32.toUInt32 31).toBitVec % 32).toNat = n := by decide +kernel
theorem nx_iushr {a k : Nat} (ha : a < 4294967296) (hk : k < 32) : ((nI a).toUInt32 >>> ((nI k).toUInt32 &&& Int32.toUInt32 31)).toInt32 = nI (a / 2 ^ k) := pk_ushrN (by omega) _ k (s_u k hk)
theorem maxN {a b : Nat} (ha : a < 2147483648) (hb : b < 2147483648) : (if nI a < nI b then nI b else nI a) = nI (max a b) := by
  by_cases q : a < b
  · rw [if_pos ((amLtI ha hb).mpr q), Nat.max_eq_right (by omega)]
  · rw [if_neg (fun z => q ((amLtI ha hb).mp z)), Nat.max_eq_left (by omega)]
def tJ2_bitCount : amT := fun as h K => match as with
  | [.int x] => ∃ n : Nat, x = nI n ∧ n < 1048576 ∧ K (some (.int (nI (pop n)))) h
  | _ => False
/-! java/lang/Integer.bitCount(I)I -/
def kJ2_bitCount : Nat → Bool := fun pc => false
def rJ2_bitCount : List (Nat × amS) := [(4, 0, 0, 0, amTcon (.int (1431655765))), (11, 0, 0, 0, amTcon (.int (858993459))), (18, 0, 0, 0, amTcon (.int (858993459))), (29, 0, 0, 0, amTcon (.int (252645135)))]
def eJ2_bitCount (ret : Option Value → amH → Nat → Nat → Prop) (F : amX) : Nat → amX := amWp cJ2_bitCount kJ2_bitCount (amLk rJ2_bitCount) (some .int) 0 0 ret F
def sJ2_bitCount (ret : Option Value → amH → Nat → Nat → Prop) (F : amX) : Nat → amX := amWs cJ2_bitCount kJ2_bitCount (amLk rJ2_bitCount) (some .int) 0 0 ret F
theorem wJ2_bitCount_0 {ret F n h} {st x} : eJ2_bitCount ret F (n + 1) 0 [.int x] (st) h 0 0 = (eJ2_bitCount ret F n 1 [.int x] (.int x :: st) h 0 0) := (amWp_dec rfl dJ2_bitCount_0 rfl).trans rfl
theorem uJ2_bitCount_0 {ret F n h} {st x} : sJ2_bitCount ret F n 0 [.int x] (st) h 0 0 = (eJ2_bitCount ret F n 1 [.int x] (.int x :: st) h 0 0) := (amWs_dec dJ2_bitCount_0 rfl).trans rfl
theorem wJ2_bitCount_1 {ret F n h} {st x} : eJ2_bitCount ret F (n + 1) 1 [.int x] (st) h 0 0 = (eJ2_bitCount ret F n 2 [.int x] (.int x :: st) h 0 0) := (amWp_dec rfl dJ2_bitCount_1 rfl).trans rfl
theorem wJ2_bitCount_2 {ret F n h} {v0 st} : eJ2_bitCount ret F (n + 1) 2 [v0] (st) h 0 0 = (eJ2_bitCount ret F n 3 [v0] (.int (nI 1) :: st) h 0 0) := (amWp_dec rfl dJ2_bitCount_2 rfl).trans rfl
theorem wJ2_bitCount_3 {ret F n h} {v0 st y x} : eJ2_bitCount ret F (n + 1) 3 [v0] (.int y :: .int x :: st) h 0 0 = (eJ2_bitCount ret F n 4 [v0] (.int ((x.toUInt32 >>> (y.toUInt32 &&& Int32.toUInt32 31)).toInt32) :: st) h 0 0) := (amWp_dec rfl dJ2_bitCount_3 rfl).trans rfl
theorem wJ2_bitCount_4 {ret F n h} {v0 r0 r1} : eJ2_bitCount ret F (n + 1) 4 [v0] (r0 :: r1 :: []) h 0 0 = (eJ2_bitCount ret F n 7 [v0] (.int (nI 1431655765) :: r0 :: r1 :: []) h 0 0) := (amWp_dec rfl dJ2_bitCount_4 rfl).trans (amS4 (Nat.le_of_ble_eq_true rfl) (Nat.le_of_ble_eq_true rfl) (Nat.le_of_ble_eq_true rfl) (Nat.le_of_ble_eq_true rfl))
theorem wJ2_bitCount_7 {ret F n h} {v0 st y x} : eJ2_bitCount ret F (n + 1) 7 [v0] (.int y :: .int x :: st) h 0 0 = (eJ2_bitCount ret F n 8 [v0] (.int (x &&& y) :: st) h 0 0) := (amWp_dec rfl dJ2_bitCount_7 rfl).trans rfl
theorem wJ2_bitCount_8 {ret F n h} {v0 st y x} : eJ2_bitCount ret F (n + 1) 8 [v0] (.int y :: .int x :: st) h 0 0 = (eJ2_bitCount ret F n 9 [v0] (.int (x - y) :: st) h 0 0) := (amWp_dec rfl dJ2_bitCount_8 rfl).trans rfl
theorem wJ2_bitCount_9 {ret F n h} {v0 st x} : eJ2_bitCount ret F (n + 1) 9 [v0] (.int x :: st) h 0 0 = (eJ2_bitCount ret F n 10 [.int x] (st) h 0 0) := (amWp_dec rfl dJ2_bitCount_9 rfl).trans (amTrue (Nat.le_of_ble_eq_true rfl))
theorem wJ2_bitCount_10 {ret F n h} {st x} : eJ2_bitCount ret F (n + 1) 10 [.int x] (st) h 0 0 = (eJ2_bitCount ret F n 11 [.int x] (.int x :: st) h 0 0) := (amWp_dec rfl dJ2_bitCount_10 rfl).trans rfl
theorem wJ2_bitCount_11 {ret F n h} {v0 r0} : eJ2_bitCount ret F (n + 1) 11 [v0] (r0 :: []) h 0 0 = (eJ2_bitCount ret F n 14 [v0] (.int (nI 858993459) :: r0 :: []) h 0 0) := (amWp_dec rfl dJ2_bitCount_11 rfl).trans (amS4 (Nat.le_of_ble_eq_true rfl) (Nat.le_of_ble_eq_true rfl) (Nat.le_of_ble_eq_true rfl) (Nat.le_of_ble_eq_true rfl))
theorem wJ2_bitCount_14 {ret F n h} {v0 st y x} : eJ2_bitCount ret F (n + 1) 14 [v0] (.int y :: .int x :: st) h 0 0 = (eJ2_bitCount ret F n 15 [v0] (.int (x &&& y) :: st) h 0 0) := (amWp_dec rfl dJ2_bitCount_14 rfl).trans rfl
theorem wJ2_bitCount_15 {ret F n h} {st x} : eJ2_bitCount ret F (n + 1) 15 [.int x] (st) h 0 0 = (eJ2_bitCount ret F n 16 [.int x] (.int x :: st) h 0 0) := (amWp_dec rfl dJ2_bitCount_15 rfl).trans rfl
theorem wJ2_bitCount_16 {ret F n h} {v0 st} : eJ2_bitCount ret F (n + 1) 16 [v0] (st) h 0 0 = (eJ2_bitCount ret F n 17 [v0] (.int (nI 2) :: st) h 0 0) := (amWp_dec rfl dJ2_bitCount_16 rfl).trans rfl
theorem wJ2_bitCount_17 {ret F n h} {v0 st y x} : eJ2_bitCount ret F (n + 1) 17 [v0] (.int y :: .int x :: st) h 0 0 = (eJ2_bitCount ret F n 18 [v0] (.int ((x.toUInt32 >>> (y.toUInt32 &&& Int32.toUInt32 31)).toInt32) :: st) h 0 0) := (amWp_dec rfl dJ2_bitCount_17 rfl).trans rfl
theorem wJ2_bitCount_18 {ret F n h} {v0 r0 r1} : eJ2_bitCount ret F (n + 1) 18 [v0] (r0 :: r1 :: []) h 0 0 = (eJ2_bitCount ret F n 21 [v0] (.int (nI 858993459) :: r0 :: r1 :: []) h 0 0) := (amWp_dec rfl dJ2_bitCount_18 rfl).trans (amS4 (Nat.le_of_ble_eq_true rfl) (Nat.le_of_ble_eq_true rfl) (Nat.le_of_ble_eq_true rfl) (Nat.le_of_ble_eq_true rfl))
theorem wJ2_bitCount_21 {ret F n h} {v0 st y x} : eJ2_bitCount ret F (n + 1) 21 [v0] (.int y :: .int x :: st) h 0 0 = (eJ2_bitCount ret F n 22 [v0] (.int (x &&& y) :: st) h 0 0) := (amWp_dec rfl dJ2_bitCount_21 rfl).trans rfl
theorem wJ2_bitCount_22 {ret F n h} {v0 st y x} : eJ2_bitCount ret F (n + 1) 22 [v0] (.int y :: .int x :: st) h 0 0 = (eJ2_bitCount ret F n 23 [v0] (.int (x + y) :: st) h 0 0) := (amWp_dec rfl dJ2_bitCount_22 rfl).trans rfl
theorem wJ2_bitCount_23 {ret F n h} {v0 st x} : eJ2_bitCount ret F (n + 1) 23 [v0] (.int x :: st) h 0 0 = (eJ2_bitCount ret F n 24 [.int x] (st) h 0 0) := (amWp_dec rfl dJ2_bitCount_23 rfl).trans (amTrue (Nat.le_of_ble_eq_true rfl))
theorem wJ2_bitCount_24 {ret F n h} {st x} : eJ2_bitCount ret F (n + 1) 24 [.int x] (st) h 0 0 = (eJ2_bitCount ret F n 25 [.int x] (.int x :: st) h 0 0) := (amWp_dec rfl dJ2_bitCount_24 rfl).trans rfl
theorem wJ2_bitCount_25 {ret F n h} {st x} : eJ2_bitCount ret F (n + 1) 25 [.int x] (st) h 0 0 = (eJ2_bitCount ret F n 26 [.int x] (.int x :: st) h 0 0) := (amWp_dec rfl dJ2_bitCount_25 rfl).trans rfl
theorem wJ2_bitCount_26 {ret F n h} {v0 st} : eJ2_bitCount ret F (n + 1) 26 [v0] (st) h 0 0 = (eJ2_bitCount ret F n 27 [v0] (.int (nI 4) :: st) h 0 0) := (amWp_dec rfl dJ2_bitCount_26 rfl).trans rfl
theorem wJ2_bitCount_27 {ret F n h} {v0 st y x} : eJ2_bitCount ret F (n + 1) 27 [v0] (.int y :: .int x :: st) h 0 0 = (eJ2_bitCount ret F n 28 [v0] (.int ((x.toUInt32 >>> (y.toUInt32 &&& Int32.toUInt32 31)).toInt32) :: st) h 0 0) := (amWp_dec rfl dJ2_bitCount_27 rfl).trans rfl
theorem wJ2_bitCount_28 {ret F n h} {v0 st y x} : eJ2_bitCount ret F (n + 1) 28 [v0] (.int y :: .int x :: st) h 0 0 = (eJ2_bitCount ret F n 29 [v0] (.int (x + y) :: st) h 0 0) := (amWp_dec rfl dJ2_bitCount_28 rfl).trans rfl
theorem wJ2_bitCount_29 {ret F n h} {v0 r0} : eJ2_bitCount ret F (n + 1) 29 [v0] (r0 :: []) h 0 0 = (eJ2_bitCount ret F n 32 [v0] (.int (nI 252645135) :: r0 :: []) h 0 0) := (amWp_dec rfl dJ2_bitCount_29 rfl).trans (amS4 (Nat.le_of_ble_eq_true rfl) (Nat.le_of_ble_eq_true rfl) (Nat.le_of_ble_eq_true rfl) (Nat.le_of_ble_eq_true rfl))
theorem wJ2_bitCount_32 {ret F n h} {v0 st y x} : eJ2_bitCount ret F (n + 1) 32 [v0] (.int y :: .int x :: st) h 0 0 = (eJ2_bitCount ret F n 33 [v0] (.int (x &&& y) :: st) h 0 0) := (amWp_dec rfl dJ2_bitCount_32 rfl).trans rfl
theorem wJ2_bitCount_33 {ret F n h} {v0 st x} : eJ2_bitCount ret F (n + 1) 33 [v0] (.int x :: st) h 0 0 = (eJ2_bitCount ret F n 34 [.int x] (st) h 0 0) := (amWp_dec rfl dJ2_bitCount_33 rfl).trans (amTrue (Nat.le_of_ble_eq_true rfl))
theorem wJ2_bitCount_34 {ret F n h} {st x} : eJ2_bitCount ret F (n + 1) 34 [.int x] (st) h 0 0 = (eJ2_bitCount ret F n 35 [.int x] (.int x :: st) h 0 0) := (amWp_dec rfl dJ2_bitCount_34 rfl).trans rfl
theorem wJ2_bitCount_35 {ret F n h} {st x} : eJ2_bitCount ret F (n + 1) 35 [.int x] (st) h 0 0 = (eJ2_bitCount ret F n 36 [.int x] (.int x :: st) h 0 0) := (amWp_dec rfl dJ2_bitCount_35 rfl).trans rfl
theorem wJ2_bitCount_36 {ret F n h} {v0 st} : eJ2_bitCount ret F (n + 1) 36 [v0] (st) h 0 0 = (eJ2_bitCount ret F n 38 [v0] (.int (nI 8) :: st) h 0 0) := (amWp_dec rfl dJ2_bitCount_36 rfl).trans rfl
theorem wJ2_bitCount_38 {ret F n h} {v0 st y x} : eJ2_bitCount ret F (n + 1) 38 [v0] (.int y :: .int x :: st) h 0 0 = (eJ2_bitCount ret F n 39 [v0] (.int ((x.toUInt32 >>> (y.toUInt32 &&& Int32.toUInt32 31)).toInt32) :: st) h 0 0) := (amWp_dec rfl dJ2_bitCount_38 rfl).trans rfl
theorem wJ2_bitCount_39 {ret F n h} {v0 st y x} : eJ2_bitCount ret F (n + 1) 39 [v0] (.int y :: .int x :: st) h 0 0 = (eJ2_bitCount ret F n 40 [v0] (.int (x + y) :: st) h 0 0) := (amWp_dec rfl dJ2_bitCount_39 rfl).trans rfl
theorem wJ2_bitCount_40 {ret F n h} {v0 st x} : eJ2_bitCount ret F (n + 1) 40 [v0] (.int x :: st) h 0 0 = (eJ2_bitCount ret F n 41 [.int x] (st) h 0 0) := (amWp_dec rfl dJ2_bitCount_40 rfl).trans (amTrue (Nat.le_of_ble_eq_true rfl))
theorem wJ2_bitCount_41 {ret F n h} {st x} : eJ2_bitCount ret F (n + 1) 41 [.int x] (st) h 0 0 = (eJ2_bitCount ret F n 42 [.int x] (.int x :: st) h 0 0) := (amWp_dec rfl dJ2_bitCount_41 rfl).trans rfl
theorem wJ2_bitCount_42 {ret F n h} {st x} : eJ2_bitCount ret F (n + 1) 42 [.int x] (st) h 0 0 = (eJ2_bitCount ret F n 43 [.int x] (.int x :: st) h 0 0) := (amWp_dec rfl dJ2_bitCount_42 rfl).trans rfl
theorem wJ2_bitCount_43 {ret F n h} {v0 st} : eJ2_bitCount ret F (n + 1) 43 [v0] (st) h 0 0 = (eJ2_bitCount ret F n 45 [v0] (.int (nI 16) :: st) h 0 0) := (amWp_dec rfl dJ2_bitCount_43 rfl).trans rfl
theorem wJ2_bitCount_45 {ret F n h} {v0 st y x} : eJ2_bitCount ret F (n + 1) 45 [v0] (.int y :: .int x :: st) h 0 0 = (eJ2_bitCount ret F n 46 [v0] (.int ((x.toUInt32 >>> (y.toUInt32 &&& Int32.toUInt32 31)).toInt32) :: st) h 0 0) := (amWp_dec rfl dJ2_bitCount_45 rfl).trans rfl
theorem wJ2_bitCount_46 {ret F n h} {v0 st y x} : eJ2_bitCount ret F (n + 1) 46 [v0] (.int y :: .int x :: st) h 0 0 = (eJ2_bitCount ret F n 47 [v0] (.int (x + y) :: st) h 0 0) := (amWp_dec rfl dJ2_bitCount_46 rfl).trans rfl
theorem wJ2_bitCount_47 {ret F n h} {v0 st x} : eJ2_bitCount ret F (n + 1) 47 [v0] (.int x :: st) h 0 0 = (eJ2_bitCount ret F n 48 [.int x] (st) h 0 0) := (amWp_dec rfl dJ2_bitCount_47 rfl).trans (amTrue (Nat.le_of_ble_eq_true rfl))
theorem wJ2_bitCount_48 {ret F n h} {st x} : eJ2_bitCount ret F (n + 1) 48 [.int x] (st) h 0 0 = (eJ2_bitCount ret F n 49 [.int x] (.int x :: st) h 0 0) := (amWp_dec rfl dJ2_bitCount_48 rfl).trans rfl
theorem wJ2_bitCount_49 {ret F n h} {v0 st} : eJ2_bitCount ret F (n + 1) 49 [v0] (st) h 0 0 = (eJ2_bitCount ret F n 51 [v0] (.int (nI 63) :: st) h 0 0) := (amWp_dec rfl dJ2_bitCount_49 rfl).trans rfl
theorem wJ2_bitCount_51 {ret F n h} {v0 st y x} : eJ2_bitCount ret F (n + 1) 51 [v0] (.int y :: .int x :: st) h 0 0 = (eJ2_bitCount ret F n 52 [v0] (.int (x &&& y) :: st) h 0 0) := (amWp_dec rfl dJ2_bitCount_51 rfl).trans rfl
theorem wJ2_bitCount_52 {ret F n h} {v0 x} : eJ2_bitCount ret F (n + 1) 52 [v0] ([.int x]) h 0 0 = (ret (some (.int x)) h 0 0) := (amWp_dec rfl dJ2_bitCount_52 rfl).trans (amTrue ⟨_, rfl, rfl⟩)
theorem evJ2_bitCount (l : Launch) (G : amG) : ∀ pc S i sz, amLk rJ2_bitCount pc = some S → decode cJ2_bitCount pc = .ok (i, sz) → amSiteP pc G l yJ2_bitCount.cls yJ2_bitCount.name yJ2_bitCount.desc (amRm 1 0 0) i sz S.1 S.2.1 S.2.2.1 S.2.2.2 := amLk_ok (by
  refine List.forall_mem_cons.mpr ⟨⟨_, _, dJ2_bitCount_4, amSite.P (amSiteLdcw q457)⟩, ?_⟩
  refine List.forall_mem_cons.mpr ⟨⟨_, _, dJ2_bitCount_11, amSite.P (amSiteLdcw q458)⟩, ?_⟩
  refine List.forall_mem_cons.mpr ⟨⟨_, _, dJ2_bitCount_18, amSite.P (amSiteLdcw q458)⟩, ?_⟩
  refine List.forall_mem_cons.mpr ⟨⟨_, _, dJ2_bitCount_29, amSite.P (amSiteLdcw q459)⟩, ?_⟩
  exact fun _ h => absurd h List.not_mem_nil)
theorem goJ2_bitCount {ret F} (hF : amCld cJ2_bitCount kJ2_bitCount (amLk rJ2_bitCount) (some .int) 0 0 ret F) (n : Nat) {pc ls st h k z} (q : sJ2_bitCount ret F n pc ls st h k z) : F pc ls st h k z := hF.1 n pc ls st h k z q
theorem metJ2_bitCount (l : Launch) (G : amG) : amMet l G yJ2_bitCount (ws_ yJ2_bitCount cJ2_bitCount 1 (some .int)) 1 0 0 tJ2_bitCount := by
  refine amMet_of (cut := kJ2_bitCount) (by decide +kernel) (evJ2_bitCount l G) ?_
  intro as h K hT
  match as, hT with
  | [.int x], ⟨n, e0, hn, hK⟩ =>
  refine ⟨Nat.le_of_ble_eq_true rfl, fun F hF => ?_⟩
  show F 0 [.int x] [] h 0 0
  subst e0
  have b0 : (n / 2 ^ 1 &&& 1431655765) ≤ n / 2 ^ 1 := Nat.and_le_left
  have b1 : (n / 2 ^ 1 &&& 1431655765) ≤ n := by omega
  generalize hi1 : n - (n / 2 ^ 1 &&& 1431655765) = i1
  have hi2 : i1 < 1048576 := by omega
  have c1 : (i1 &&& 858993459) ≤ i1 := Nat.and_le_left
  have c2 : (i1 / 2 ^ 2 &&& 858993459) ≤ i1 / 2 ^ 2 := Nat.and_le_left
  generalize hj1 : (i1 &&& 858993459) + (i1 / 2 ^ 2 &&& 858993459) = j1
  have hj2 : j1 < 2097152 := by omega
  have d1 : ((j1 + j1 / 2 ^ 4) &&& 252645135) ≤ j1 + j1 / 2 ^ 4 := Nat.and_le_left
  generalize hk1 : ((j1 + j1 / 2 ^ 4) &&& 252645135) = k1
  have hk2 : k1 < 4194304 := by omega
  have e : ((k1 + k1 / 2 ^ 8 + (k1 + k1 / 2 ^ 8) / 2 ^ 16) &&& 63) = pop n := by
    rw [← bc_pop n hn, bc, st2]
    rw [show n / 2 ^ 1 = n / 2 from rfl] at hi1
    rw [hi1, show i1 / 4 = i1 / 2 ^ 2 from rfl, hj1]
    simp only [show j1 / 16 = j1 / 2 ^ 4 from rfl, hk1]
  refine goJ2_bitCount hF 80 ?_
  simp (disch := omega) only [wJ2_bitCount_0, uJ2_bitCount_0, wJ2_bitCount_1, wJ2_bitCount_2, wJ2_bitCount_3, wJ2_bitCount_4, wJ2_bitCount_7, wJ2_bitCount_8, wJ2_bitCount_9, wJ2_bitCount_10, wJ2_bitCount_11, wJ2_bitCount_14, wJ2_bitCount_15, wJ2_bitCount_16, wJ2_bitCount_17, wJ2_bitCount_18, wJ2_bitCount_21, wJ2_bitCount_22, wJ2_bitCount_23, wJ2_bitCount_24, wJ2_bitCount_25, wJ2_bitCount_26, wJ2_bitCount_27, wJ2_bitCount_28, wJ2_bitCount_29, wJ2_bitCount_32, wJ2_bitCount_33, wJ2_bitCount_34, wJ2_bitCount_35, wJ2_bitCount_36, wJ2_bitCount_38, wJ2_bitCount_39, wJ2_bitCount_40, wJ2_bitCount_41, wJ2_bitCount_42, wJ2_bitCount_43, wJ2_bitCount_45, wJ2_bitCount_46, wJ2_bitCount_47, wJ2_bitCount_48, wJ2_bitCount_49, wJ2_bitCount_51, wJ2_bitCount_52, amSI_1, amSI_2, amSI_3, amSI_s, amU_at, amIsR_ref, amIsR_null, amIsR_rf, amRf_some, amRf_none, amClr_int, amClr_ref, amClr_null, amClr_long, amClr_ra, amClr_rf, amFit_int, amFit_oref, amFit_aref, amFit_onull, amFit_anull, amOptSome, amOptNone, List.cons_append, List.nil_append, true_and, and_true, true_implies, not_true_eq_false, not_false_eq_true, false_implies, and_self, Nat.add_zero, Nat.zero_add, ne_eq, Prod.mk.injEq, amC01_0, amC01_1, amC01_nb, amNb0, amNb1, amTcpI_d, Nat.reduceLeDiff, Nat.reduceAdd, Nat.reduceSub, Nat.reduceEqDiff, Nat.le_refl, amN0le, nx_iushr, nx_and, amAdd, amSub, hi1, hj1, hk1, e]
  exact amRet.of (by decide) (by decide) hK
theorem tJ2_bitCount_d {x : Int32} {h : amH} {K : Option Value → amH → Prop} : tJ2_bitCount [.int x] h K = ∃ n : Nat, x = nI n ∧ n < 1048576 ∧ K (some (.int (nI (pop n)))) h := rfl
theorem foldA_take {α β : Type} {f : β → α → β} {s : β} {l : List α} {p : Nat} {d : α} (h : p < l.length) : (l.take (p + 1)).foldl f s = f ((l.take p).foldl f s) (l.getD p d) := by
  rw [List.take_succ_eq_append_getElem h, List.foldl_append]
  simp [List.getD_eq_getElem?_getD, h]
theorem peak_le : ∀ (l : List PL) (s : Nat), s ≤ 20 → l.foldl (fun m q => max m (pop q.1)) s ≤ 20
  | [], _, h => h
  | q :: t, s, h => peak_le t _ (Nat.max_le.mpr ⟨h, pop_le _⟩)
theorem loss_le : ∀ (l : List PL) (s : Nat), l.foldl (fun s q => s + pop q.2.2.1) s ≤ s + 20 * l.length
  | [], _ => by simp
  | q :: t, s => by
    have h1 := loss_le t (s + pop q.2.2.1)
    have h2 := pop_le q.2.2.1
    rw [List.foldl_cons, List.length_cons]
    omega
def tX0_peak : amT := fun as h K => match as with
  | [.ref a, .int n] => ∃ l : List PL, a = (24 : Nat) ∧ rsAt h ∧ n = nI l.length ∧ l.length ≤ 7 ∧ (∀ p : Nat, p < l.length → h.2.1 33 p = nI (l.getD p PL0).1 ∧ (l.getD p PL0).1 < 1048576) ∧ K (some (.int (nI (peakL l)))) h
  | _ => False
/-! ReadingStages.peak(I)I -/
def kX0_peak : Nat → Bool := fun pc => pc == 4
def rX0_peak : List (Nat × amS) := [(11, 1, 0, 0, amTget 0 4), (16, 1, 0, 0, tJ2_bitCount), (19, 2, 0, 0, amTmax)]
def eX0_peak (ret : Option Value → amH → Nat → Nat → Prop) (F : amX) : Nat → amX := amWp cX0_peak kX0_peak (amLk rX0_peak) (some .int) 0 0 ret F
def sX0_peak (ret : Option Value → amH → Nat → Nat → Prop) (F : amX) : Nat → amX := amWs cX0_peak kX0_peak (amLk rX0_peak) (some .int) 0 0 ret F
theorem wX0_peak_0 {ret F n h} {v0 v1 v2 v3 st} : eX0_peak ret F (n + 1) 0 [v0, v1, v2, v3] (st) h 0 0 = (eX0_peak ret F n 1 [v0, v1, v2, v3] (.int (nI 0) :: st) h 0 0) := (amWp_dec rfl dX0_peak_0 rfl).trans rfl
theorem uX0_peak_0 {ret F n h} {v0 v1 v2 v3 st} : sX0_peak ret F n 0 [v0, v1, v2, v3] (st) h 0 0 = (eX0_peak ret F n 1 [v0, v1, v2, v3] (.int (nI 0) :: st) h 0 0) := (amWs_dec dX0_peak_0 rfl).trans rfl
theorem wX0_peak_1 {ret F n h} {v0 v1 v2 v3 st x} : eX0_peak ret F (n + 1) 1 [v0, v1, v2, v3] (.int x :: st) h 0 0 = (eX0_peak ret F n 2 [v0, amClr v1, .int x, v3] (st) h 0 0) := (amWp_dec rfl dX0_peak_1 rfl).trans (amTrue (Nat.le_of_ble_eq_true rfl))
theorem wX0_peak_2 {ret F n h} {v0 v1 v2 v3 st} : eX0_peak ret F (n + 1) 2 [v0, v1, v2, v3] (st) h 0 0 = (eX0_peak ret F n 3 [v0, v1, v2, v3] (.int (nI 0) :: st) h 0 0) := (amWp_dec rfl dX0_peak_2 rfl).trans rfl
theorem wX0_peak_3 {ret F n h} {v0 v1 v2 v3 st x} : eX0_peak ret F (n + 1) 3 [v0, v1, v2, v3] (.int x :: st) h 0 0 = (eX0_peak ret F n 4 [v0, v1, amClr v2, .int x] (st) h 0 0) := (amWp_dec rfl dX0_peak_3 rfl).trans (amTrue (Nat.le_of_ble_eq_true rfl))
theorem wX0_peak_4 {ret F n ls st h k z} : eX0_peak ret F (n + 1) 4 ls st h k z = F 4 ls st h k z := amWp_cut rfl
theorem uX0_peak_4 {ret F n h} {v0 v1 v2 st x} : sX0_peak ret F n 4 [v0, v1, v2, .int x] (st) h 0 0 = (eX0_peak ret F n 5 [v0, v1, v2, .int x] (.int x :: st) h 0 0) := (amWs_dec dX0_peak_4 rfl).trans rfl
theorem wX0_peak_5 {ret F n h} {v0 v2 v3 st x} : eX0_peak ret F (n + 1) 5 [v0, .int x, v2, v3] (st) h 0 0 = (eX0_peak ret F n 6 [v0, .int x, v2, v3] (.int x :: st) h 0 0) := (amWp_dec rfl dX0_peak_5 rfl).trans rfl
theorem wX0_peak_6 {ret F n h} {v0 v1 v2 v3 st y x} : eX0_peak ret F (n + 1) 6 [v0, v1, v2, v3] (.int y :: .int x :: st) h 0 0 = ((y ≤ x → eX0_peak ret F n 29 [v0, v1, v2, v3] (st) h 0 0) ∧ (¬ y ≤ x → eX0_peak ret F n 9 [v0, v1, v2, v3] (st) h 0 0)) := (amWp_dec rfl dX0_peak_6 rfl).trans rfl
theorem wX0_peak_9 {ret F n h} {v0 v1 v3 st x} : eX0_peak ret F (n + 1) 9 [v0, v1, .int x, v3] (st) h 0 0 = (eX0_peak ret F n 10 [v0, v1, .int x, v3] (.int x :: st) h 0 0) := (amWp_dec rfl dX0_peak_9 rfl).trans rfl
theorem wX0_peak_10 {ret F n h} {v0 v1 v2 v3 st} : eX0_peak ret F (n + 1) 10 [v0, v1, v2, v3] (st) h 0 0 = (amIsR v0 ∧ eX0_peak ret F n 11 [v0, v1, v2, v3] (v0 :: st) h 0 0) := (amWp_dec rfl dX0_peak_10 rfl).trans rfl
theorem wX0_peak_11 {ret F n h} {v0 v1 v2 v3 r0 a} : eX0_peak ret F (n + 1) 11 [v0, v1, v2, v3] (.ref a :: r0 :: []) h 0 0 = (h.1 a = (0, 0) ∧ eX0_peak ret F n 14 [v0, v1, v2, v3] (va_rf (h.2.2.2.1 a 4) :: r0 :: []) h 0 0) := (amWp_dec rfl dX0_peak_11 rfl).trans (amS4 (Nat.le_of_ble_eq_true rfl) (Nat.le_of_ble_eq_true rfl) (Nat.le_of_ble_eq_true rfl) (Nat.le_of_ble_eq_true rfl))
theorem wX0_peak_14 {ret F n h} {v0 v1 v2 st x} : eX0_peak ret F (n + 1) 14 [v0, v1, v2, .int x] (st) h 0 0 = (eX0_peak ret F n 15 [v0, v1, v2, .int x] (.int x :: st) h 0 0) := (amWp_dec rfl dX0_peak_14 rfl).trans rfl
theorem wX0_peak_15 {ret F n h} {v0 v1 v2 v3 st x a} : eX0_peak ret F (n + 1) 15 [v0, v1, v2, v3] (.int x :: .ref a :: st) h 0 0 = ((h.1 a).1 = 1 ∧ vp_in x (h.1 a).2 ∧ eX0_peak ret F n 16 [v0, v1, v2, v3] (.int (h.2.1 a x.toNatClampNeg) :: st) h 0 0) := (amWp_dec rfl dX0_peak_15 rfl).trans rfl
theorem wX0_peak_16 {ret F n h} {v0 v1 v2 v3 x0 r0} : eX0_peak ret F (n + 1) 16 [v0, v1, v2, v3] (.int x0 :: r0 :: []) h 0 0 = (tJ2_bitCount [.int x0] h (fun v h => eX0_peak ret F n 19 [v0, v1, v2, v3] (v.toList ++ (r0 :: [])) h 0 0)) := (amWp_dec rfl dX0_peak_16 rfl).trans (amS4 (Nat.le_of_ble_eq_true rfl) (Nat.le_of_ble_eq_true rfl) (Nat.le_of_ble_eq_true rfl) (Nat.le_of_ble_eq_true rfl))
theorem wX0_peak_19 {ret F n h} {v0 v1 v2 v3 x1 x0} : eX0_peak ret F (n + 1) 19 [v0, v1, v2, v3] (.int x1 :: .int x0 :: []) h 0 0 = (amTmax [.int x0, .int x1] h (fun v h => eX0_peak ret F n 22 [v0, v1, v2, v3] (v.toList ++ ([])) h 0 0)) := (amWp_dec rfl dX0_peak_19 rfl).trans (amS4 (Nat.le_of_ble_eq_true rfl) (Nat.le_of_ble_eq_true rfl) (Nat.le_of_ble_eq_true rfl) (Nat.le_of_ble_eq_true rfl))
theorem wX0_peak_22 {ret F n h} {v0 v1 v2 v3 st x} : eX0_peak ret F (n + 1) 22 [v0, v1, v2, v3] (.int x :: st) h 0 0 = (eX0_peak ret F n 23 [v0, amClr v1, .int x, v3] (st) h 0 0) := (amWp_dec rfl dX0_peak_22 rfl).trans (amTrue (Nat.le_of_ble_eq_true rfl))
theorem wX0_peak_23 {ret F n h} {v0 v1 v2 st x} : eX0_peak ret F (n + 1) 23 [v0, v1, v2, .int x] (st) h 0 0 = (eX0_peak ret F n 26 [v0, v1, amClr v2, .int (x + nI 1)] (st) h 0 0) := (amWp_dec rfl dX0_peak_23 rfl).trans rfl
theorem wX0_peak_26 {ret F n h} {v0 v1 v2 v3 st} : eX0_peak ret F (n + 1) 26 [v0, v1, v2, v3] (st) h 0 0 = (eX0_peak ret F n 4 [v0, v1, v2, v3] (st) h 0 0) := (amWp_dec rfl dX0_peak_26 rfl).trans rfl
theorem wX0_peak_29 {ret F n h} {v0 v1 v3 st x} : eX0_peak ret F (n + 1) 29 [v0, v1, .int x, v3] (st) h 0 0 = (eX0_peak ret F n 30 [v0, v1, .int x, v3] (.int x :: st) h 0 0) := (amWp_dec rfl dX0_peak_29 rfl).trans rfl
theorem wX0_peak_30 {ret F n h} {v0 v1 v2 v3 x} : eX0_peak ret F (n + 1) 30 [v0, v1, v2, v3] ([.int x]) h 0 0 = (ret (some (.int x)) h 0 0) := (amWp_dec rfl dX0_peak_30 rfl).trans (amTrue ⟨_, rfl, rfl⟩)
theorem evX0_peak (l : Launch) (G : amG) : ∀ pc S i sz, amLk rX0_peak pc = some S → decode cX0_peak pc = .ok (i, sz) → amSiteP pc G l yX0_peak.cls yX0_peak.name yX0_peak.desc (amRm 2 0 0) i sz S.1 S.2.1 S.2.2.1 S.2.2.2 := amLk_ok (by
  refine List.forall_mem_cons.mpr ⟨⟨_, _, dX0_peak_11, amSite.P (amSiteGet ⟨_, rfl, by decide, Or.inl q305⟩)⟩, ?_⟩
  refine List.forall_mem_cons.mpr ⟨⟨_, _, dX0_peak_16, amSite.P (amSiteS (metJ2_bitCount l G) rfl (by decide) (by decide) (lw_S q454 q455 q97 q456) ⟨by decide +kernel, by decide +kernel, by decide +kernel⟩)⟩, ?_⟩
  refine List.forall_mem_cons.mpr ⟨⟨_, _, dX0_peak_19, amSite.P (amSiteMax rfl (by decide) q460)⟩, ?_⟩
  exact fun _ h => absurd h List.not_mem_nil)
theorem goX0_peak {ret F} (hF : amCld cX0_peak kX0_peak (amLk rX0_peak) (some .int) 0 0 ret F) (n : Nat) {pc ls st h k z} (q : sX0_peak ret F n pc ls st h k z) : F pc ls st h k z := hF.1 n pc ls st h k z q
theorem metX0_peak (l : Launch) (G : amG) : amMet l G yX0_peak (ws_ yX0_peak cX0_peak 4 (some .int)) 2 0 0 tX0_peak := by
  refine amMet_of (cut := kX0_peak) (by decide +kernel) (evX0_peak l G) ?_
  intro as h K hT
  match as, hT with
  | [.ref a, .int n], ⟨l, e1, hR, e2, hn, hl, hK⟩ =>
  refine ⟨Nat.le_of_ble_eq_true rfl, fun F hF => ?_⟩
  show F 0 [.ref a, .int n, .retAddr 0, .retAddr 0] [] h 0 0
  obtain ⟨a, rfl⟩ : ∃ i : Nat, i = a := ⟨_, rfl⟩
  subst e1; subst e2
  have loop : ∀ t p, p + t = l.length → F 4 [.ref 24, .int (nI l.length), .int (nI (peakL (l.take p))), .int (nI p)] [] h 0 0 := by
    intro t
    induction t with
    | zero =>
      intro p e1
      have e : p = l.length := by omega
      subst e
      rw [List.take_length]
      refine goX0_peak hF 30 ?_
      simp (disch := omega) only [wX0_peak_0, uX0_peak_0, wX0_peak_1, wX0_peak_2, wX0_peak_3, wX0_peak_4, uX0_peak_4, wX0_peak_5, wX0_peak_6, wX0_peak_9, wX0_peak_10, wX0_peak_11, wX0_peak_14, wX0_peak_15, wX0_peak_16, wX0_peak_19, wX0_peak_22, wX0_peak_23, wX0_peak_26, wX0_peak_29, wX0_peak_30, amSI_1, amSI_2, amSI_3, amSI_s, amU_at, amIsR_ref, amIsR_null, amIsR_rf, amRf_some, amRf_none, amClr_int, amClr_ref, amClr_null, amClr_long, amClr_ra, amClr_rf, amFit_int, amFit_oref, amFit_aref, amFit_onull, amFit_anull, amOptSome, amOptNone, List.cons_append, List.nil_append, true_and, and_true, true_implies, not_true_eq_false, not_false_eq_true, false_implies, and_self, Nat.add_zero, Nat.zero_add, ne_eq, Prod.mk.injEq, amC01_0, amC01_1, amC01_nb, amNb0, amNb1, amTcpI_d, Nat.reduceLeDiff, Nat.reduceAdd, Nat.reduceSub, Nat.reduceEqDiff, Nat.le_refl, amN0le, hR.s, hR.r, amLeI, amLtI, amEqI, amLe0, amGt0, amEq0, amNotPosI, amGe0, amVI, amCl_nI, amAdd, amSub, amMul]
      exact amRet.of (by decide) (by decide) hK
    | succ t ih =>
      intro p e1
      have q : (l.length ≤ p) = False := eq_false (by omega)
      obtain ⟨h1, h2⟩ := hl p (by omega)
      have b1 := peak_le (l.take p) 0 (by decide)
      have b2 := pop_le (l.getD p PL0).1
      have nx := ih (p + 1) (by omega)
      rw [peakL, foldA_take (d := PL0) (by omega)] at nx
      refine goX0_peak hF 30 ?_
      simp (disch := omega) only [wX0_peak_0, uX0_peak_0, wX0_peak_1, wX0_peak_2, wX0_peak_3, wX0_peak_4, uX0_peak_4, wX0_peak_5, wX0_peak_6, wX0_peak_9, wX0_peak_10, wX0_peak_11, wX0_peak_14, wX0_peak_15, wX0_peak_16, wX0_peak_19, wX0_peak_22, wX0_peak_23, wX0_peak_26, wX0_peak_29, wX0_peak_30, amSI_1, amSI_2, amSI_3, amSI_s, amU_at, amIsR_ref, amIsR_null, amIsR_rf, amRf_some, amRf_none, amClr_int, amClr_ref, amClr_null, amClr_long, amClr_ra, amClr_rf, amFit_int, amFit_oref, amFit_aref, amFit_onull, amFit_anull, amOptSome, amOptNone, List.cons_append, List.nil_append, true_and, and_true, true_implies, not_true_eq_false, not_false_eq_true, false_implies, and_self, Nat.add_zero, Nat.zero_add, ne_eq, Prod.mk.injEq, amC01_0, amC01_1, amC01_nb, amNb0, amNb1, amTcpI_d, Nat.reduceLeDiff, Nat.reduceAdd, Nat.reduceSub, Nat.reduceEqDiff, Nat.le_refl, amN0le, hR.s, hR.r, amLeI, amLtI, amEqI, amLe0, amGt0, amEq0, amNotPosI, amGe0, amVI, amCl_nI, amAdd, amSub, amMul, q, h1, tJ2_bitCount_d, amTmax_d]
      refine ⟨_, rfl, h2, ?_⟩
      have b3 : peakL (l.take p) ≤ 20 := b1
      have := maxN (a := peakL (l.take p)) (b := pop (l.getD p PL0).1) (by omega) (by omega)
      simp only [this]
      exact nx
  refine goX0_peak hF 30 ?_
  simp (disch := omega) only [wX0_peak_0, uX0_peak_0, wX0_peak_1, wX0_peak_2, wX0_peak_3, wX0_peak_4, uX0_peak_4, wX0_peak_5, wX0_peak_6, wX0_peak_9, wX0_peak_10, wX0_peak_11, wX0_peak_14, wX0_peak_15, wX0_peak_16, wX0_peak_19, wX0_peak_22, wX0_peak_23, wX0_peak_26, wX0_peak_29, wX0_peak_30, amSI_1, amSI_2, amSI_3, amSI_s, amU_at, amIsR_ref, amIsR_null, amIsR_rf, amRf_some, amRf_none, amClr_int, amClr_ref, amClr_null, amClr_long, amClr_ra, amClr_rf, amFit_int, amFit_oref, amFit_aref, amFit_onull, amFit_anull, amOptSome, amOptNone, List.cons_append, List.nil_append, true_and, and_true, true_implies, not_true_eq_false, not_false_eq_true, false_implies, and_self, Nat.add_zero, Nat.zero_add, ne_eq, Prod.mk.injEq, amC01_0, amC01_1, amC01_nb, amNb0, amNb1, amTcpI_d, Nat.reduceLeDiff, Nat.reduceAdd, Nat.reduceSub, Nat.reduceEqDiff, Nat.le_refl, amN0le, hR.s, hR.r, amLeI, amLtI, amEqI, amLe0, amGt0, amEq0, amNotPosI, amGe0, amVI, amCl_nI, amAdd, amSub, amMul]
  exact loop l.length 0 (by omega)
theorem tX0_peak_d {a : Nat} {n : Int32} {h : amH} {K : Option Value → amH → Prop} : tX0_peak [.ref a, .int n] h K = ∃ l : List PL, a = (24 : Nat) ∧ rsAt h ∧ n = nI l.length ∧ l.length ≤ 7 ∧ (∀ p : Nat, p < l.length → h.2.1 33 p = nI (l.getD p PL0).1 ∧ (l.getD p PL0).1 < 1048576) ∧ K (some (.int (nI (peakL l)))) h := rfl
def tX0_loss : amT := fun as h K => match as with
  | [.ref a, .int n] => ∃ l : List PL, a = (24 : Nat) ∧ rsAt h ∧ n = nI l.length ∧ l.length ≤ 7 ∧ (∀ p : Nat, p < l.length → h.2.1 35 p = nI (l.getD p PL0).2.2.1 ∧ (l.getD p PL0).2.2.1 < 1048576) ∧ K (some (.int (nI (lossL l)))) h
  | _ => False
/-! ReadingStages.loss(I)I -/
def kX0_loss : Nat → Bool := fun pc => pc == 4
def rX0_loss : List (Nat × amS) := [(11, 1, 0, 0, amTget 0 6), (16, 1, 0, 0, tJ2_bitCount)]
def eX0_loss (ret : Option Value → amH → Nat → Nat → Prop) (F : amX) : Nat → amX := amWp cX0_loss kX0_loss (amLk rX0_loss) (some .int) 0 0 ret F
def sX0_loss (ret : Option Value → amH → Nat → Nat → Prop) (F : amX) : Nat → amX := amWs cX0_loss kX0_loss (amLk rX0_loss) (some .int) 0 0 ret F
theorem wX0_loss_0 {ret F n h} {v0 v1 v2 v3 st} : eX0_loss ret F (n + 1) 0 [v0, v1, v2, v3] (st) h 0 0 = (eX0_loss ret F n 1 [v0, v1, v2, v3] (.int (nI 0) :: st) h 0 0) := (amWp_dec rfl dX0_loss_0 rfl).trans rfl
theorem uX0_loss_0 {ret F n h} {v0 v1 v2 v3 st} : sX0_loss ret F n 0 [v0, v1, v2, v3] (st) h 0 0 = (eX0_loss ret F n 1 [v0, v1, v2, v3] (.int (nI 0) :: st) h 0 0) := (amWs_dec dX0_loss_0 rfl).trans rfl
theorem wX0_loss_1 {ret F n h} {v0 v1 v2 v3 st x} : eX0_loss ret F (n + 1) 1 [v0, v1, v2, v3] (.int x :: st) h 0 0 = (eX0_loss ret F n 2 [v0, amClr v1, .int x, v3] (st) h 0 0) := (amWp_dec rfl dX0_loss_1 rfl).trans (amTrue (Nat.le_of_ble_eq_true rfl))
theorem wX0_loss_2 {ret F n h} {v0 v1 v2 v3 st} : eX0_loss ret F (n + 1) 2 [v0, v1, v2, v3] (st) h 0 0 = (eX0_loss ret F n 3 [v0, v1, v2, v3] (.int (nI 0) :: st) h 0 0) := (amWp_dec rfl dX0_loss_2 rfl).trans rfl
theorem wX0_loss_3 {ret F n h} {v0 v1 v2 v3 st x} : eX0_loss ret F (n + 1) 3 [v0, v1, v2, v3] (.int x :: st) h 0 0 = (eX0_loss ret F n 4 [v0, v1, amClr v2, .int x] (st) h 0 0) := (amWp_dec rfl dX0_loss_3 rfl).trans (amTrue (Nat.le_of_ble_eq_true rfl))
theorem wX0_loss_4 {ret F n ls st h k z} : eX0_loss ret F (n + 1) 4 ls st h k z = F 4 ls st h k z := amWp_cut rfl
theorem uX0_loss_4 {ret F n h} {v0 v1 v2 st x} : sX0_loss ret F n 4 [v0, v1, v2, .int x] (st) h 0 0 = (eX0_loss ret F n 5 [v0, v1, v2, .int x] (.int x :: st) h 0 0) := (amWs_dec dX0_loss_4 rfl).trans rfl
theorem wX0_loss_5 {ret F n h} {v0 v2 v3 st x} : eX0_loss ret F (n + 1) 5 [v0, .int x, v2, v3] (st) h 0 0 = (eX0_loss ret F n 6 [v0, .int x, v2, v3] (.int x :: st) h 0 0) := (amWp_dec rfl dX0_loss_5 rfl).trans rfl
theorem wX0_loss_6 {ret F n h} {v0 v1 v2 v3 st y x} : eX0_loss ret F (n + 1) 6 [v0, v1, v2, v3] (.int y :: .int x :: st) h 0 0 = ((y ≤ x → eX0_loss ret F n 27 [v0, v1, v2, v3] (st) h 0 0) ∧ (¬ y ≤ x → eX0_loss ret F n 9 [v0, v1, v2, v3] (st) h 0 0)) := (amWp_dec rfl dX0_loss_6 rfl).trans rfl
theorem wX0_loss_9 {ret F n h} {v0 v1 v3 st x} : eX0_loss ret F (n + 1) 9 [v0, v1, .int x, v3] (st) h 0 0 = (eX0_loss ret F n 10 [v0, v1, .int x, v3] (.int x :: st) h 0 0) := (amWp_dec rfl dX0_loss_9 rfl).trans rfl
theorem wX0_loss_10 {ret F n h} {v0 v1 v2 v3 st} : eX0_loss ret F (n + 1) 10 [v0, v1, v2, v3] (st) h 0 0 = (amIsR v0 ∧ eX0_loss ret F n 11 [v0, v1, v2, v3] (v0 :: st) h 0 0) := (amWp_dec rfl dX0_loss_10 rfl).trans rfl
theorem wX0_loss_11 {ret F n h} {v0 v1 v2 v3 r0 a} : eX0_loss ret F (n + 1) 11 [v0, v1, v2, v3] (.ref a :: r0 :: []) h 0 0 = (h.1 a = (0, 0) ∧ eX0_loss ret F n 14 [v0, v1, v2, v3] (va_rf (h.2.2.2.1 a 6) :: r0 :: []) h 0 0) := (amWp_dec rfl dX0_loss_11 rfl).trans (amS4 (Nat.le_of_ble_eq_true rfl) (Nat.le_of_ble_eq_true rfl) (Nat.le_of_ble_eq_true rfl) (Nat.le_of_ble_eq_true rfl))
theorem wX0_loss_14 {ret F n h} {v0 v1 v2 st x} : eX0_loss ret F (n + 1) 14 [v0, v1, v2, .int x] (st) h 0 0 = (eX0_loss ret F n 15 [v0, v1, v2, .int x] (.int x :: st) h 0 0) := (amWp_dec rfl dX0_loss_14 rfl).trans rfl
theorem wX0_loss_15 {ret F n h} {v0 v1 v2 v3 st x a} : eX0_loss ret F (n + 1) 15 [v0, v1, v2, v3] (.int x :: .ref a :: st) h 0 0 = ((h.1 a).1 = 1 ∧ vp_in x (h.1 a).2 ∧ eX0_loss ret F n 16 [v0, v1, v2, v3] (.int (h.2.1 a x.toNatClampNeg) :: st) h 0 0) := (amWp_dec rfl dX0_loss_15 rfl).trans rfl
theorem wX0_loss_16 {ret F n h} {v0 v1 v2 v3 x0 r0} : eX0_loss ret F (n + 1) 16 [v0, v1, v2, v3] (.int x0 :: r0 :: []) h 0 0 = (tJ2_bitCount [.int x0] h (fun v h => eX0_loss ret F n 19 [v0, v1, v2, v3] (v.toList ++ (r0 :: [])) h 0 0)) := (amWp_dec rfl dX0_loss_16 rfl).trans (amS4 (Nat.le_of_ble_eq_true rfl) (Nat.le_of_ble_eq_true rfl) (Nat.le_of_ble_eq_true rfl) (Nat.le_of_ble_eq_true rfl))
theorem wX0_loss_19 {ret F n h} {v0 v1 v2 v3 st y x} : eX0_loss ret F (n + 1) 19 [v0, v1, v2, v3] (.int y :: .int x :: st) h 0 0 = (eX0_loss ret F n 20 [v0, v1, v2, v3] (.int (x + y) :: st) h 0 0) := (amWp_dec rfl dX0_loss_19 rfl).trans rfl
theorem wX0_loss_20 {ret F n h} {v0 v1 v2 v3 st x} : eX0_loss ret F (n + 1) 20 [v0, v1, v2, v3] (.int x :: st) h 0 0 = (eX0_loss ret F n 21 [v0, amClr v1, .int x, v3] (st) h 0 0) := (amWp_dec rfl dX0_loss_20 rfl).trans (amTrue (Nat.le_of_ble_eq_true rfl))
theorem wX0_loss_21 {ret F n h} {v0 v1 v2 st x} : eX0_loss ret F (n + 1) 21 [v0, v1, v2, .int x] (st) h 0 0 = (eX0_loss ret F n 24 [v0, v1, amClr v2, .int (x + nI 1)] (st) h 0 0) := (amWp_dec rfl dX0_loss_21 rfl).trans rfl
theorem wX0_loss_24 {ret F n h} {v0 v1 v2 v3 st} : eX0_loss ret F (n + 1) 24 [v0, v1, v2, v3] (st) h 0 0 = (eX0_loss ret F n 4 [v0, v1, v2, v3] (st) h 0 0) := (amWp_dec rfl dX0_loss_24 rfl).trans rfl
theorem wX0_loss_27 {ret F n h} {v0 v1 v3 st x} : eX0_loss ret F (n + 1) 27 [v0, v1, .int x, v3] (st) h 0 0 = (eX0_loss ret F n 28 [v0, v1, .int x, v3] (.int x :: st) h 0 0) := (amWp_dec rfl dX0_loss_27 rfl).trans rfl
theorem wX0_loss_28 {ret F n h} {v0 v1 v2 v3 x} : eX0_loss ret F (n + 1) 28 [v0, v1, v2, v3] ([.int x]) h 0 0 = (ret (some (.int x)) h 0 0) := (amWp_dec rfl dX0_loss_28 rfl).trans (amTrue ⟨_, rfl, rfl⟩)
theorem evX0_loss (l : Launch) (G : amG) : ∀ pc S i sz, amLk rX0_loss pc = some S → decode cX0_loss pc = .ok (i, sz) → amSiteP pc G l yX0_loss.cls yX0_loss.name yX0_loss.desc (amRm 2 0 0) i sz S.1 S.2.1 S.2.2.1 S.2.2.2 := amLk_ok (by
  refine List.forall_mem_cons.mpr ⟨⟨_, _, dX0_loss_11, amSite.P (amSiteGet ⟨_, rfl, by decide, Or.inl q307⟩)⟩, ?_⟩
  refine List.forall_mem_cons.mpr ⟨⟨_, _, dX0_loss_16, amSite.P (amSiteS (metJ2_bitCount l G) rfl (by decide) (by decide) (lw_S q454 q455 q97 q456) ⟨by decide +kernel, by decide +kernel, by decide +kernel⟩)⟩, ?_⟩
  exact fun _ h => absurd h List.not_mem_nil)
theorem goX0_loss {ret F} (hF : amCld cX0_loss kX0_loss (amLk rX0_loss) (some .int) 0 0 ret F) (n : Nat) {pc ls st h k z} (q : sX0_loss ret F n pc ls st h k z) : F pc ls st h k z := hF.1 n pc ls st h k z q
theorem metX0_loss (l : Launch) (G : amG) : amMet l G yX0_loss (ws_ yX0_loss cX0_loss 4 (some .int)) 2 0 0 tX0_loss := by
  refine amMet_of (cut := kX0_loss) (by decide +kernel) (evX0_loss l G) ?_
  intro as h K hT
  match as, hT with
  | [.ref a, .int n], ⟨l, e1, hR, e2, hn, hl, hK⟩ =>
  refine ⟨Nat.le_of_ble_eq_true rfl, fun F hF => ?_⟩
  show F 0 [.ref a, .int n, .retAddr 0, .retAddr 0] [] h 0 0
  obtain ⟨a, rfl⟩ : ∃ i : Nat, i = a := ⟨_, rfl⟩
  subst e1; subst e2
  have loop : ∀ t p, p + t = l.length → F 4 [.ref 24, .int (nI l.length), .int (nI (lossL (l.take p))), .int (nI p)] [] h 0 0 := by
    intro t
    induction t with
    | zero =>
      intro p e1
      have e : p = l.length := by omega
      subst e
      rw [List.take_length]
      refine goX0_loss hF 30 ?_
      simp (disch := omega) only [wX0_loss_0, uX0_loss_0, wX0_loss_1, wX0_loss_2, wX0_loss_3, wX0_loss_4, uX0_loss_4, wX0_loss_5, wX0_loss_6, wX0_loss_9, wX0_loss_10, wX0_loss_11, wX0_loss_14, wX0_loss_15, wX0_loss_16, wX0_loss_19, wX0_loss_20, wX0_loss_21, wX0_loss_24, wX0_loss_27, wX0_loss_28, amSI_1, amSI_2, amSI_3, amSI_s, amU_at, amIsR_ref, amIsR_null, amIsR_rf, amRf_some, amRf_none, amClr_int, amClr_ref, amClr_null, amClr_long, amClr_ra, amClr_rf, amFit_int, amFit_oref, amFit_aref, amFit_onull, amFit_anull, amOptSome, amOptNone, List.cons_append, List.nil_append, true_and, and_true, true_implies, not_true_eq_false, not_false_eq_true, false_implies, and_self, Nat.add_zero, Nat.zero_add, ne_eq, Prod.mk.injEq, amC01_0, amC01_1, amC01_nb, amNb0, amNb1, amTcpI_d, Nat.reduceLeDiff, Nat.reduceAdd, Nat.reduceSub, Nat.reduceEqDiff, Nat.le_refl, amN0le, hR.s, hR.r, amLeI, amLtI, amEqI, amLe0, amGt0, amEq0, amNotPosI, amGe0, amVI, amCl_nI, amAdd, amSub, amMul]
      exact amRet.of (by decide) (by decide) hK
    | succ t ih =>
      intro p e1
      have q : (l.length ≤ p) = False := eq_false (by omega)
      obtain ⟨h1, h2⟩ := hl p (by omega)
      have nx := ih (p + 1) (by omega)
      rw [lossL, foldA_take (d := PL0) (by omega)] at nx
      refine goX0_loss hF 30 ?_
      simp (disch := omega) only [wX0_loss_0, uX0_loss_0, wX0_loss_1, wX0_loss_2, wX0_loss_3, wX0_loss_4, uX0_loss_4, wX0_loss_5, wX0_loss_6, wX0_loss_9, wX0_loss_10, wX0_loss_11, wX0_loss_14, wX0_loss_15, wX0_loss_16, wX0_loss_19, wX0_loss_20, wX0_loss_21, wX0_loss_24, wX0_loss_27, wX0_loss_28, amSI_1, amSI_2, amSI_3, amSI_s, amU_at, amIsR_ref, amIsR_null, amIsR_rf, amRf_some, amRf_none, amClr_int, amClr_ref, amClr_null, amClr_long, amClr_ra, amClr_rf, amFit_int, amFit_oref, amFit_aref, amFit_onull, amFit_anull, amOptSome, amOptNone, List.cons_append, List.nil_append, true_and, and_true, true_implies, not_true_eq_false, not_false_eq_true, false_implies, and_self, Nat.add_zero, Nat.zero_add, ne_eq, Prod.mk.injEq, amC01_0, amC01_1, amC01_nb, amNb0, amNb1, amTcpI_d, Nat.reduceLeDiff, Nat.reduceAdd, Nat.reduceSub, Nat.reduceEqDiff, Nat.le_refl, amN0le, hR.s, hR.r, amLeI, amLtI, amEqI, amLe0, amGt0, amEq0, amNotPosI, amGe0, amVI, amCl_nI, amAdd, amSub, amMul, q, h1, tJ2_bitCount_d]
      exact ⟨_, rfl, h2, nx⟩
  refine goX0_loss hF 30 ?_
  simp (disch := omega) only [wX0_loss_0, uX0_loss_0, wX0_loss_1, wX0_loss_2, wX0_loss_3, wX0_loss_4, uX0_loss_4, wX0_loss_5, wX0_loss_6, wX0_loss_9, wX0_loss_10, wX0_loss_11, wX0_loss_14, wX0_loss_15, wX0_loss_16, wX0_loss_19, wX0_loss_20, wX0_loss_21, wX0_loss_24, wX0_loss_27, wX0_loss_28, amSI_1, amSI_2, amSI_3, amSI_s, amU_at, amIsR_ref, amIsR_null, amIsR_rf, amRf_some, amRf_none, amClr_int, amClr_ref, amClr_null, amClr_long, amClr_ra, amClr_rf, amFit_int, amFit_oref, amFit_aref, amFit_onull, amFit_anull, amOptSome, amOptNone, List.cons_append, List.nil_append, true_and, and_true, true_implies, not_true_eq_false, not_false_eq_true, false_implies, and_self, Nat.add_zero, Nat.zero_add, ne_eq, Prod.mk.injEq, amC01_0, amC01_1, amC01_nb, amNb0, amNb1, amTcpI_d, Nat.reduceLeDiff, Nat.reduceAdd, Nat.reduceSub, Nat.reduceEqDiff, Nat.le_refl, amN0le, hR.s, hR.r, amLeI, amLtI, amEqI, amLe0, amGt0, amEq0, amNotPosI, amGe0, amVI, amCl_nI, amAdd, amSub, amMul]
  exact loop l.length 0 (by omega)
theorem tX0_loss_d {a : Nat} {n : Int32} {h : amH} {K : Option Value → amH → Prop} : tX0_loss [.ref a, .int n] h K = ∃ l : List PL, a = (24 : Nat) ∧ rsAt h ∧ n = nI l.length ∧ l.length ≤ 7 ∧ (∀ p : Nat, p < l.length → h.2.1 35 p = nI (l.getD p PL0).2.2.1 ∧ (l.getD p PL0).2.2.1 < 1048576) ∧ K (some (.int (nI (lossL l)))) h := rfl
