/-! every order asked -/
set_option maxRecDepth 100000
def allOrds (n : Nat) : List (List Nat) := ords 7 n (2 ^ n - 1)
theorem tEO_d {t : Nat} {a r : Nat} {left0 : Int32} {h : amH} {K : Option Value → amH → Prop} : tEO (t + 1) [.ref a, .int left0, .ref r] h K = ∃ (σ : Type) (f : List Nat → σ → σ × Bool) (I : σ → (Nat → Nat → Int32) → Prop) (n left : Nat) (pre : List Nat) (s : σ), a = (24 : Nat) ∧ left0 = nI left ∧ left < 2 ^ n ∧ n ≤ 7 ∧ cnt7 left ≤ t ∧ pre.length + cnt7 left = n ∧ rsAt h ∧ (∀ x ∈ pre, x < n) ∧ bdIs h.2.1 37 pre ∧ I s h.2.1 ∧ (∀ s m, I s m → m 28 1 = nI n) ∧ (∀ s m m', I s m → mdFr m m' → I s m') ∧ (∀ l s m K, (∀ x ∈ l, x < n) → l.length = n → I s m → bdIs m 37 l → (∀ m', I (f l s).1 m' → bdIs m' 37 l → K (some (.int (amC01 ((f l s).2 = true)))) (amSI h m')) → tAsk [.ref r, .ref 37] (amSI h m) K) ∧ ∀ m', I (runA (fun l s => f (pre ++ l) s) (ords t n left) s).1 m' → bdIs m' 37 pre → K (some (.int (amC01 ((runA (fun l s => f (pre ++ l) s) (ords t n left) s).2 = true)))) (amSI h m') := rfl
def tX0_askAll : amT := fun as h K => match as with
  | [.ref a, .ref r] => ∃ (σ : Type) (f : List Nat → σ → σ × Bool) (I : σ → (Nat → Nat → Int32) → Prop) (n : Nat) (s : σ), a = (24 : Nat) ∧ n ≤ 7 ∧ rsAt h ∧ h.2.1 28 1 = nI n ∧ I s (amU (amU h.2.1 37 1 (nI 0)) 24 12 (nI 0)) ∧ (∀ s m, I s m → m 28 1 = nI n) ∧ (∀ s m m', I s m → mdFr m m' → I s m') ∧ (∀ l s m K, (∀ x ∈ l, x < n) → l.length = n → I s m → bdIs m 37 l → (∀ m', I (f l s).1 m' → bdIs m' 37 l → K (some (.int (amC01 ((f l s).2 = true)))) (amSI h m')) → tAsk [.ref r, .ref 37] (amSI h m) K) ∧ ∀ m', I (runA f (allOrds n) s).1 m' → K none (amSI h m')
  | _ => False
theorem p2m1 : ∀ n, n < 8 → nI 1 <<< (nI n &&& 31) - nI 1 = nI (2 ^ n - 1) ∧ 2 ^ n - 1 < 2 ^ n ∧ cnt7 (2 ^ n - 1) = n := by decide +kernel
/-! ReadingStages.askAll(LReadingStages$Ask;)V -/
def kX0_askAll : Nat → Bool := fun pc => pc == 28
def rX0_askAll : List (Nat × amS) := [(1, 1, 0, 0, amTget 0 8), (4, 1, 0, 0, (amRecv 2 tX2_clear)), (9, 2, 0, 0, amTput 0 12), (15, 1, 0, 0, amTget 0 0), (18, 1, 0, 0, (amRecv 1 tX1_many)), (25, 3, 0, 0, (amRecv 0 (tEO 8)))]
def eX0_askAll (ret : Option Value → amH → Nat → Nat → Prop) (F : amX) : Nat → amX := amWp cX0_askAll kX0_askAll (amLk rX0_askAll) none 0 0 ret F
def sX0_askAll (ret : Option Value → amH → Nat → Nat → Prop) (F : amX) : Nat → amX := amWs cX0_askAll kX0_askAll (amLk rX0_askAll) none 0 0 ret F
theorem wX0_askAll_0 {ret F n h} {v0 v1 st} : eX0_askAll ret F (n + 1) 0 [v0, v1] (st) h 0 0 = (amIsR v0 ∧ eX0_askAll ret F n 1 [v0, v1] (v0 :: st) h 0 0) := (amWp_dec rfl dX0_askAll_0 rfl).trans rfl
theorem uX0_askAll_0 {ret F n h} {v0 v1 st} : sX0_askAll ret F n 0 [v0, v1] (st) h 0 0 = (amIsR v0 ∧ eX0_askAll ret F n 1 [v0, v1] (v0 :: st) h 0 0) := (amWs_dec dX0_askAll_0 rfl).trans rfl
theorem wX0_askAll_1 {ret F n h} {v0 v1 a} : eX0_askAll ret F (n + 1) 1 [v0, v1] (.ref a :: []) h 0 0 = (h.1 a = (0, 0) ∧ eX0_askAll ret F n 4 [v0, v1] (va_rf (h.2.2.2.1 a 8) :: []) h 0 0) := (amWp_dec rfl dX0_askAll_1 rfl).trans (amS4 (Nat.le_of_ble_eq_true rfl) (Nat.le_of_ble_eq_true rfl) (Nat.le_of_ble_eq_true rfl) (Nat.le_of_ble_eq_true rfl))
theorem wX0_askAll_4 {ret F n h} {v0 v1 x0} : eX0_askAll ret F (n + 1) 4 [v0, v1] (.ref x0 :: []) h 0 0 = (h.1 x0 = (0, 2) ∧ tX2_clear [.ref x0] h (fun v h => eX0_askAll ret F n 7 [v0, v1] (v.toList ++ ([])) h 0 0)) := (amWp_dec rfl dX0_askAll_4 rfl).trans (amS4 (Nat.le_of_ble_eq_true rfl) (Nat.le_of_ble_eq_true rfl) (Nat.le_of_ble_eq_true rfl) (Nat.le_of_ble_eq_true rfl))
theorem wX0_askAll_7 {ret F n h} {v0 v1 st} : eX0_askAll ret F (n + 1) 7 [v0, v1] (st) h 0 0 = (amIsR v0 ∧ eX0_askAll ret F n 8 [v0, v1] (v0 :: st) h 0 0) := (amWp_dec rfl dX0_askAll_7 rfl).trans rfl
theorem wX0_askAll_8 {ret F n h} {v0 v1 st} : eX0_askAll ret F (n + 1) 8 [v0, v1] (st) h 0 0 = (eX0_askAll ret F n 9 [v0, v1] (.int (nI 0) :: st) h 0 0) := (amWp_dec rfl dX0_askAll_8 rfl).trans rfl
theorem wX0_askAll_9 {ret F n h} {v0 v1 x a} : eX0_askAll ret F (n + 1) 9 [v0, v1] (.int x :: .ref a :: []) h 0 0 = (h.1 a = (0, 0) ∧ amN0 ≤ a ∧ amFit .int (.int x) ∧ eX0_askAll ret F n 12 [v0, v1] ([]) (amSI h (amU h.2.1 a 12 x)) 0 0) := (amWp_dec rfl dX0_askAll_9 rfl).trans (amS4 (Nat.le_of_ble_eq_true rfl) (Nat.le_of_ble_eq_true rfl) (Nat.le_of_ble_eq_true rfl) (Nat.le_of_ble_eq_true rfl))
theorem wX0_askAll_12 {ret F n h} {v0 v1 st} : eX0_askAll ret F (n + 1) 12 [v0, v1] (st) h 0 0 = (amIsR v0 ∧ eX0_askAll ret F n 13 [v0, v1] (v0 :: st) h 0 0) := (amWp_dec rfl dX0_askAll_12 rfl).trans rfl
theorem wX0_askAll_13 {ret F n h} {v0 v1 st} : eX0_askAll ret F (n + 1) 13 [v0, v1] (st) h 0 0 = (eX0_askAll ret F n 14 [v0, v1] (.int (nI 1) :: st) h 0 0) := (amWp_dec rfl dX0_askAll_13 rfl).trans rfl
theorem wX0_askAll_14 {ret F n h} {v0 v1 st} : eX0_askAll ret F (n + 1) 14 [v0, v1] (st) h 0 0 = (amIsR v0 ∧ eX0_askAll ret F n 15 [v0, v1] (v0 :: st) h 0 0) := (amWp_dec rfl dX0_askAll_14 rfl).trans rfl
theorem wX0_askAll_15 {ret F n h} {v0 v1 r0 r1 a} : eX0_askAll ret F (n + 1) 15 [v0, v1] (.ref a :: r0 :: r1 :: []) h 0 0 = (h.1 a = (0, 0) ∧ eX0_askAll ret F n 18 [v0, v1] (va_rf (h.2.2.2.1 a 0) :: r0 :: r1 :: []) h 0 0) := (amWp_dec rfl dX0_askAll_15 rfl).trans (amS4 (Nat.le_of_ble_eq_true rfl) (Nat.le_of_ble_eq_true rfl) (Nat.le_of_ble_eq_true rfl) (Nat.le_of_ble_eq_true rfl))
theorem wX0_askAll_18 {ret F n h} {v0 v1 x0 r0 r1} : eX0_askAll ret F (n + 1) 18 [v0, v1] (.ref x0 :: r0 :: r1 :: []) h 0 0 = (h.1 x0 = (0, 1) ∧ tX1_many [.ref x0] h (fun v h => eX0_askAll ret F n 21 [v0, v1] (v.toList ++ (r0 :: r1 :: [])) h 0 0)) := (amWp_dec rfl dX0_askAll_18 rfl).trans (amS4 (Nat.le_of_ble_eq_true rfl) (Nat.le_of_ble_eq_true rfl) (Nat.le_of_ble_eq_true rfl) (Nat.le_of_ble_eq_true rfl))
theorem wX0_askAll_21 {ret F n h} {v0 v1 st y x} : eX0_askAll ret F (n + 1) 21 [v0, v1] (.int y :: .int x :: st) h 0 0 = (eX0_askAll ret F n 22 [v0, v1] (.int (x <<< (y &&& 31)) :: st) h 0 0) := (amWp_dec rfl dX0_askAll_21 rfl).trans rfl
theorem wX0_askAll_22 {ret F n h} {v0 v1 st} : eX0_askAll ret F (n + 1) 22 [v0, v1] (st) h 0 0 = (eX0_askAll ret F n 23 [v0, v1] (.int (nI 1) :: st) h 0 0) := (amWp_dec rfl dX0_askAll_22 rfl).trans rfl
theorem wX0_askAll_23 {ret F n h} {v0 v1 st y x} : eX0_askAll ret F (n + 1) 23 [v0, v1] (.int y :: .int x :: st) h 0 0 = (eX0_askAll ret F n 24 [v0, v1] (.int (x - y) :: st) h 0 0) := (amWp_dec rfl dX0_askAll_23 rfl).trans rfl
theorem wX0_askAll_24 {ret F n h} {v0 v1 st} : eX0_askAll ret F (n + 1) 24 [v0, v1] (st) h 0 0 = (amIsR v1 ∧ eX0_askAll ret F n 25 [v0, v1] (v1 :: st) h 0 0) := (amWp_dec rfl dX0_askAll_24 rfl).trans rfl
theorem wX0_askAll_25 {ret F n h} {v0 v1 x2 x1 x0} : eX0_askAll ret F (n + 1) 25 [v0, v1] (.ref x2 :: .int x1 :: .ref x0 :: []) h 0 0 = (h.1 x0 = (0, 0) ∧ (tEO 8) [.ref x0, .int x1, .ref x2] h (fun v h => eX0_askAll ret F n 28 [v0, v1] (v.toList ++ ([])) h 0 0)) := (amWp_dec rfl dX0_askAll_25 rfl).trans (amS4 (Nat.le_of_ble_eq_true rfl) (Nat.le_of_ble_eq_true rfl) (Nat.le_of_ble_eq_true rfl) (Nat.le_of_ble_eq_true rfl))
theorem wX0_askAll_28 {ret F n ls st h k z} : eX0_askAll ret F (n + 1) 28 ls st h k z = F 28 ls st h k z := amWp_cut rfl
theorem uX0_askAll_28 {ret F n h} {v0 v1 st x} : sX0_askAll ret F n 28 [v0, v1] (.int x :: st) h 0 0 = (eX0_askAll ret F n 29 [v0, v1] (st) h 0 0) := (amWs_dec dX0_askAll_28 rfl).trans (amTrue rfl)
theorem wX0_askAll_29 {ret F n h} {v0 v1} : eX0_askAll ret F (n + 1) 29 [v0, v1] ([]) h 0 0 = (ret none h 0 0) := (amWp_dec rfl dX0_askAll_29 rfl).trans (amTrue rfl)
theorem evX0_askAll (l : Launch) (G : amG) : ∀ pc S i sz, amLk rX0_askAll pc = some S → decode cX0_askAll pc = .ok (i, sz) → amSiteP pc G l yX0_askAll.cls yX0_askAll.name yX0_askAll.desc (amRm 20 0 0) i sz S.1 S.2.1 S.2.2.1 S.2.2.2 := amLk_ok (by
  refine List.forall_mem_cons.mpr ⟨⟨_, _, dX0_askAll_1, amSite.P (amSiteGet ⟨_, rfl, by decide, Or.inl q309⟩)⟩, ?_⟩
  refine List.forall_mem_cons.mpr ⟨⟨_, _, dX0_askAll_4, amSite.P (amSiteV (C := RX2) (metX2_clear l G) rfl (by decide) (by decide) (lw_V q389 q390 q391 q88 q392) ⟨_, rfl, rfl⟩ ⟨rfl, by decide +kernel, by decide +kernel, by decide +kernel⟩)⟩, ?_⟩
  refine List.forall_mem_cons.mpr ⟨⟨_, _, dX0_askAll_9, amSite.P (amSitePut ⟨_, rfl, by decide, Or.inl q313⟩ (fun q h => by cases h; rfl))⟩, ?_⟩
  refine List.forall_mem_cons.mpr ⟨⟨_, _, dX0_askAll_15, amSite.P (amSiteGet ⟨_, rfl, by decide, Or.inl q301⟩)⟩, ?_⟩
  refine List.forall_mem_cons.mpr ⟨⟨_, _, dX0_askAll_18, amSite.P (amSiteV (C := RX1) (metX1_many l G) rfl (by decide) (by decide) (lw_V q478 q479 q480 q87 q481) ⟨_, rfl, rfl⟩ ⟨rfl, by decide +kernel, by decide +kernel, by decide +kernel⟩)⟩, ?_⟩
  refine List.forall_mem_cons.mpr ⟨⟨_, _, dX0_askAll_25, amSite.P (amSiteV (C := RX0) (metX0_eachOrder l G 8) rfl (by decide) (by decide) (lw_V q482 q484 qs14 q86 q485) ⟨_, rfl, rfl⟩ ⟨rfl, by decide +kernel, by decide +kernel, by decide +kernel⟩)⟩, ?_⟩
  exact fun _ h => absurd h List.not_mem_nil)
theorem goX0_askAll {ret F} (hF : amCld cX0_askAll kX0_askAll (amLk rX0_askAll) none 0 0 ret F) (n : Nat) {pc ls st h k z} (q : sX0_askAll ret F n pc ls st h k z) : F pc ls st h k z := hF.1 n pc ls st h k z q
theorem metX0_askAll (l : Launch) (G : amG) : amMet l G yX0_askAll (ws_ yX0_askAll cX0_askAll 2 none) 20 0 0 tX0_askAll := by
  refine amMet_of (cut := kX0_askAll) (by decide +kernel) (evX0_askAll l G) ?_
  intro as h K hT
  match as, hT with
  | [.ref a, .ref r], ⟨σ, f, I, n, s, e1, hn, hR, hm, hI, hI1, hI2, hA, hK⟩ =>
  refine ⟨Nat.le_of_ble_eq_true rfl, fun F hF => ?_⟩
  show F 0 [.ref a, .ref r] [] h 0 0
  obtain ⟨a, rfl⟩ : ∃ i : Nat, i = a := ⟨_, rfl⟩
  obtain ⟨r, rfl⟩ : ∃ i : Nat, i = r := ⟨_, rfl⟩
  subst e1
  obtain ⟨p1, p2, p3⟩ := p2m1 n (by omega)
  refine goX0_askAll hF 60 ?_
  simp (disch := omega) only [wX0_askAll_0, uX0_askAll_0, wX0_askAll_1, wX0_askAll_4, wX0_askAll_7, wX0_askAll_8, wX0_askAll_9, wX0_askAll_12, wX0_askAll_13, wX0_askAll_14, wX0_askAll_15, wX0_askAll_18, wX0_askAll_21, wX0_askAll_22, wX0_askAll_23, wX0_askAll_24, wX0_askAll_25, wX0_askAll_28, uX0_askAll_28, wX0_askAll_29, amSI_1, amSI_2, amSI_3, amSI_s, amU_at, amIsR_ref, amIsR_null, amIsR_rf, amRf_some, amRf_none, amClr_int, amClr_ref, amClr_null, amClr_long, amClr_ra, amClr_rf, amFit_int, amFit_oref, amFit_aref, amFit_onull, amFit_anull, amOptSome, amOptNone, List.cons_append, List.nil_append, true_and, and_true, true_implies, not_true_eq_false, not_false_eq_true, false_implies, and_self, Nat.add_zero, Nat.zero_add, ne_eq, Prod.mk.injEq, amC01_0, amC01_1, amC01_nb, amNb0, amNb1, amTcpI_d, Nat.reduceLeDiff, Nat.reduceAdd, Nat.reduceSub, Nat.reduceEqDiff, Nat.le_refl, amN0le, hR.s, hR.r, tX2_clear_d, tX1_many_d, hm, amU_ne, p1]
  rw [tEO_d]
  refine ⟨σ, f, I, n, 2 ^ n - 1, [], s, rfl, rfl, p2, hn, by omega, by simpa using p3, hR, by simp, ?_, hI, hI1, hI2, hA, fun m' q1 q2 => ?_⟩
  · refine ⟨by decide, by simp, ?_, by simp⟩
    simp (disch := omega) only [amU_at, amU_ne, amU_nj, amU_neR, up_ne, up_at, amSI_2]
    rfl
  · have e : (fun l s => f ([] ++ l) s) = f := rfl
    rw [e] at q1
    refine goX0_askAll hF 60 ?_
    simp (disch := omega) only [wX0_askAll_0, uX0_askAll_0, wX0_askAll_1, wX0_askAll_4, wX0_askAll_7, wX0_askAll_8, wX0_askAll_9, wX0_askAll_12, wX0_askAll_13, wX0_askAll_14, wX0_askAll_15, wX0_askAll_18, wX0_askAll_21, wX0_askAll_22, wX0_askAll_23, wX0_askAll_24, wX0_askAll_25, wX0_askAll_28, uX0_askAll_28, wX0_askAll_29, amSI_1, amSI_2, amSI_3, amSI_s, amU_at, amIsR_ref, amIsR_null, amIsR_rf, amRf_some, amRf_none, amClr_int, amClr_ref, amClr_null, amClr_long, amClr_ra, amClr_rf, amFit_int, amFit_oref, amFit_aref, amFit_onull, amFit_anull, amOptSome, amOptNone, List.cons_append, List.nil_append, true_and, and_true, true_implies, not_true_eq_false, not_false_eq_true, false_implies, and_self, Nat.add_zero, Nat.zero_add, ne_eq, Prod.mk.injEq, amC01_0, amC01_1, amC01_nb, amNb0, amNb1, amTcpI_d, Nat.reduceLeDiff, Nat.reduceAdd, Nat.reduceSub, Nat.reduceEqDiff, Nat.le_refl, amN0le, hR.s, hR.r]
    exact amRet.of (by decide) (by decide) (hK m' q1)
theorem tX0_askAll_d {a r : Nat} {h : amH} {K : Option Value → amH → Prop} : tX0_askAll [.ref a, .ref r] h K = ∃ (σ : Type) (f : List Nat → σ → σ × Bool) (I : σ → (Nat → Nat → Int32) → Prop) (n : Nat) (s : σ), a = (24 : Nat) ∧ n ≤ 7 ∧ rsAt h ∧ h.2.1 28 1 = nI n ∧ I s (amU (amU h.2.1 37 1 (nI 0)) 24 12 (nI 0)) ∧ (∀ s m, I s m → m 28 1 = nI n) ∧ (∀ s m m', I s m → mdFr m m' → I s m') ∧ (∀ l s m K, (∀ x ∈ l, x < n) → l.length = n → I s m → bdIs m 37 l → (∀ m', I (f l s).1 m' → bdIs m' 37 l → K (some (.int (amC01 ((f l s).2 = true)))) (amSI h m')) → tAsk [.ref r, .ref 37] (amSI h m) K) ∧ ∀ m', I (runA f (allOrds n) s).1 m' → K none (amSI h m') := rfl
