/-! the JDK's StringBuilder, of letters below 128 -/
set_option maxRecDepth 100000
theorem amShl0 (x : Int32) : x <<< (nI 0 &&& 31) = x := sb_shl0 x
theorem amShr0 (x : Int32) : x >>> (nI 0 &&& 31) = x := sb_shr0 x
theorem amNby0 : (narrow .byte (.int (nI 0)) = .int (nI 0)) = True := eq_true (by decide)
theorem subLe0 {a b : Nat} (ha : a < 1000) (hb : b < 1000) : (nI a - nI b ≤ 0) = (a ≤ b) := by
  apply propext
  have z0 : (0 : Int32).toInt = 0 := by decide
  rw [Int32.le_iff_toInt_le, Int32.toInt_sub, nI_toInt (by omega), nI_toInt (by omega), Int.bmod_eq_of_le (by omega) (by omega), z0]
  omega
/-- the cells below n0 are as they were -/
def gFr (h h' : amH) (n0 : Nat) : Prop := h.2.2.2.2 ≤ h'.2.2.2.2 ∧ ∀ i : Nat, i < n0 → amSame h h' i
theorem gFr.rf (h : amH) (n0 : Nat) : gFr h h n0 := ⟨Nat.le_refl _, fun i _ => amSame.rf h i⟩
theorem gFr.tr {h h2 h3 : amH} {n0 : Nat} (a : gFr h h2 n0) (b : gFr h2 h3 n0) : gFr h h3 n0 := ⟨Nat.le_trans a.1 b.1, fun i hi => (a.2 i hi).tr (b.2 i hi)⟩
theorem gFr.le {h h' : amH} {n0 n1 : Nat} (a : gFr h h' n1) (e : n0 ≤ n1) : gFr h h' n0 := ⟨a.1, fun i hi => a.2 i (by omega)⟩
/-- a builder: its bytes in the cell v -/
def SbV (h : amH) (b v cap : Nat) (t : List Nat) : Prop := h.1 b = (0, 8) ∧ h.2.2.2.1 b 0 = some v ∧ h.2.1 b 1 = nI 0 ∧ h.2.1 b 3 = nI t.length ∧ h.1 v = (2, cap) ∧ t.length ≤ cap ∧ cap ≤ 302 ∧ (∀ i, i < t.length → h.2.1 v i = nI (t.getD i 0)) ∧ ∀ c ∈ t, c < 128
theorem SbV.same {h h' : amH} {b v cap : Nat} {t : List Nat} (q : SbV h b v cap t) (e1 : amSame h h' b) (e2 : amSame h h' v) : SbV h' b v cap t := by
  obtain ⟨a1, a2, a3, a4, a5, a6, a7, a8, a9⟩ := q
  exact ⟨by rw [e1.1]; exact a1, by rw [e1.2.2.2]; exact a2, by rw [e1.2.1]; exact a3, by rw [e1.2.1]; exact a4, by rw [e2.1]; exact a5, a6, a7, fun i hi => by rw [e2.2.1]; exact a8 i hi, a9⟩
theorem SbV.ne {h : amH} {b v cap : Nat} {t : List Nat} (q : SbV h b v cap t) : v ≠ b := by
  intro e
  have h1 := q.1
  have h2 := q.2.2.2.2.1
  rw [e, h1] at h2
  exact absurd (congrArg Prod.fst h2) (by decide : (0 : Nat) ≠ 2)
def SbAt (h : amH) (n0 b : Nat) (t : List Nat) : Prop := ∃ v cap, 24 ≤ n0 ∧ n0 ≤ b ∧ n0 ≤ v ∧ b < h.2.2.2.2 ∧ v < h.2.2.2.2 ∧ SbV h b v cap t
theorem SbAt.same {h h' : amH} {n0 n1 b : Nat} {t : List Nat} (q : SbAt h n0 b t) (f : gFr h h' n1) (hn : h.2.2.2.2 ≤ n1) : SbAt h' n0 b t := by
  obtain ⟨v, cap, a1, a2, a3, a4, a5, a6⟩ := q
  exact ⟨v, cap, a1, a2, a3, Nat.lt_of_lt_of_le a4 f.1, Nat.lt_of_lt_of_le a5 f.1, a6.same (f.2 b (by omega)) (f.2 v (by omega))⟩
/-- a string -/
def StIs (h : amH) (s : Nat) (t : List Nat) : Prop := h.1 s = (0, 7) ∧ s < h.2.2.2.2 ∧ ∃ v, v < h.2.2.2.2 ∧ h.2.2.2.1 s 0 = some v ∧ h.2.1 s 1 = nI 0 ∧ h.1 v = (2, t.length) ∧ (∀ i, i < t.length → h.2.1 v i = nI (t.getD i 0)) ∧ (∀ c ∈ t, c < 128) ∧ t.length ≤ 302
theorem amCst.st {h : amH} (c : amCst h) (hn : 24 ≤ h.2.2.2.2) {i : Nat} (hi : i < 8) : StIs h i (csTx i) := by
  obtain ⟨a1, a2, a3, a4, a5⟩ := c.1 i hi
  refine ⟨a1, by omega, 8 + i, by omega, a2, a3, a4, a5, ?_, ?_⟩
  · match i, hi with
    | 0, _ => decide
    | 1, _ => decide
    | 2, _ => decide
    | 3, _ => decide
    | 4, _ => decide
    | 5, _ => decide
    | 6, _ => decide
    | 7, _ => decide
  · match i, hi with
    | 0, _ => decide
    | 1, _ => decide
    | 2, _ => decide
    | 3, _ => decide
    | 4, _ => decide
    | 5, _ => decide
    | 6, _ => decide
    | 7, _ => decide
def tJ4_isLatin1 : amT := fun as h K => match as with
  | [.ref b] => h.1 b = (0, 8) ∧ h.2.1 b 1 = nI 0 ∧ K (some (.int (nI 1))) h
  | _ => False
/-! java/lang/AbstractStringBuilder.isLatin1()Z -/
def kJ4_isLatin1 : Nat → Bool := fun pc => false
def rJ4_isLatin1 : List (Nat × amS) := [(0, 0, 0, 0, amTcon (.int 1)), (7, 1, 0, 0, amTget 8 1)]
def eJ4_isLatin1 (ret : Option Value → amH → Nat → Nat → Prop) (F : amX) : Nat → amX := amWp cJ4_isLatin1 kJ4_isLatin1 (amLk rJ4_isLatin1) (some .boolean) 0 0 ret F
def sJ4_isLatin1 (ret : Option Value → amH → Nat → Nat → Prop) (F : amX) : Nat → amX := amWs cJ4_isLatin1 kJ4_isLatin1 (amLk rJ4_isLatin1) (some .boolean) 0 0 ret F
theorem wJ4_isLatin1_0 {ret F n h} {v0} : eJ4_isLatin1 ret F (n + 1) 0 [v0] ([]) h 0 0 = (eJ4_isLatin1 ret F n 3 [v0] (.int (nI 1) :: []) h 0 0) := (amWp_dec rfl dJ4_isLatin1_0 rfl).trans (amS4 (Nat.le_of_ble_eq_true rfl) (Nat.le_of_ble_eq_true rfl) (Nat.le_of_ble_eq_true rfl) (Nat.le_of_ble_eq_true rfl))
theorem uJ4_isLatin1_0 {ret F n h} {v0} : sJ4_isLatin1 ret F n 0 [v0] ([]) h 0 0 = (eJ4_isLatin1 ret F n 3 [v0] (.int (nI 1) :: []) h 0 0) := (amWs_dec dJ4_isLatin1_0 rfl).trans (amS4 (Nat.le_of_ble_eq_true rfl) (Nat.le_of_ble_eq_true rfl) (Nat.le_of_ble_eq_true rfl) (Nat.le_of_ble_eq_true rfl))
theorem wJ4_isLatin1_3 {ret F n h} {v0 st x} : eJ4_isLatin1 ret F (n + 1) 3 [v0] (.int x :: st) h 0 0 = ((x = 0 → eJ4_isLatin1 ret F n 17 [v0] (st) h 0 0) ∧ (¬ x = 0 → eJ4_isLatin1 ret F n 6 [v0] (st) h 0 0)) := (amWp_dec rfl dJ4_isLatin1_3 rfl).trans rfl
theorem wJ4_isLatin1_6 {ret F n h} {v0 st} : eJ4_isLatin1 ret F (n + 1) 6 [v0] (st) h 0 0 = (amIsR v0 ∧ eJ4_isLatin1 ret F n 7 [v0] (v0 :: st) h 0 0) := (amWp_dec rfl dJ4_isLatin1_6 rfl).trans rfl
theorem wJ4_isLatin1_7 {ret F n h} {v0 a} : eJ4_isLatin1 ret F (n + 1) 7 [v0] (.ref a :: []) h 0 0 = (h.1 a = (0, 8) ∧ eJ4_isLatin1 ret F n 10 [v0] (.int (h.2.1 a 1) :: []) h 0 0) := (amWp_dec rfl dJ4_isLatin1_7 rfl).trans (amS4 (Nat.le_of_ble_eq_true rfl) (Nat.le_of_ble_eq_true rfl) (Nat.le_of_ble_eq_true rfl) (Nat.le_of_ble_eq_true rfl))
theorem wJ4_isLatin1_10 {ret F n h} {v0 st x} : eJ4_isLatin1 ret F (n + 1) 10 [v0] (.int x :: st) h 0 0 = ((¬ x = 0 → eJ4_isLatin1 ret F n 17 [v0] (st) h 0 0) ∧ (x = 0 → eJ4_isLatin1 ret F n 13 [v0] (st) h 0 0)) := (amWp_dec rfl dJ4_isLatin1_10 rfl).trans rfl
theorem wJ4_isLatin1_13 {ret F n h} {v0 st} : eJ4_isLatin1 ret F (n + 1) 13 [v0] (st) h 0 0 = (eJ4_isLatin1 ret F n 14 [v0] (.int (nI 1) :: st) h 0 0) := (amWp_dec rfl dJ4_isLatin1_13 rfl).trans rfl
theorem wJ4_isLatin1_14 {ret F n h} {v0 st} : eJ4_isLatin1 ret F (n + 1) 14 [v0] (st) h 0 0 = (eJ4_isLatin1 ret F n 18 [v0] (st) h 0 0) := (amWp_dec rfl dJ4_isLatin1_14 rfl).trans rfl
theorem wJ4_isLatin1_17 {ret F n h} {v0 st} : eJ4_isLatin1 ret F (n + 1) 17 [v0] (st) h 0 0 = (eJ4_isLatin1 ret F n 18 [v0] (.int (nI 0) :: st) h 0 0) := (amWp_dec rfl dJ4_isLatin1_17 rfl).trans rfl
theorem wJ4_isLatin1_18 {ret F n h} {v0 x} : eJ4_isLatin1 ret F (n + 1) 18 [v0] ([.int x]) h 0 0 = (narrow .boolean (.int x) = .int x ∧ ret (some (.int x)) h 0 0) := (amWp_dec rfl dJ4_isLatin1_18 rfl).trans (amRetTy)
theorem evJ4_isLatin1 (l : Launch) (G : amG) : ∀ pc S i sz, amLk rJ4_isLatin1 pc = some S → decode cJ4_isLatin1 pc = .ok (i, sz) → amSiteP pc G l yJ4_isLatin1.cls yJ4_isLatin1.name yJ4_isLatin1.desc (amRm 1 0 0) i sz S.1 S.2.1 S.2.2.1 S.2.2.2 := amLk_ok (by
  refine List.forall_mem_cons.mpr ⟨⟨_, _, dJ4_isLatin1_0, amSite.P (amSiteGs (List.mem_of_getElem? (i := 0) rfl) q591)⟩, ?_⟩
  refine List.forall_mem_cons.mpr ⟨⟨_, _, dJ4_isLatin1_7, amSite.P (amSiteGet ⟨_, rfl, by decide, Or.inl q624⟩)⟩, ?_⟩
  exact fun _ h => absurd h List.not_mem_nil)
theorem goJ4_isLatin1 {ret F} (hF : amCld cJ4_isLatin1 kJ4_isLatin1 (amLk rJ4_isLatin1) (some .boolean) 0 0 ret F) (n : Nat) {pc ls st h k z} (q : sJ4_isLatin1 ret F n pc ls st h k z) : F pc ls st h k z := hF.1 n pc ls st h k z q
theorem metJ4_isLatin1 (l : Launch) (G : amG) : amMet l G yJ4_isLatin1 (ws_ yJ4_isLatin1 cJ4_isLatin1 1 (some .boolean)) 1 0 0 tJ4_isLatin1 := by
  refine amMet_of (cut := kJ4_isLatin1) (by decide +kernel) (evJ4_isLatin1 l G) ?_
  intro as h K hT
  match as, hT with
  | [.ref b], ⟨h1, h2, hK⟩ =>
  refine ⟨Nat.le_of_ble_eq_true rfl, fun F hF => ?_⟩
  show F 0 [.ref b] [] h 0 0
  obtain ⟨b, rfl⟩ : ∃ i : Nat, i = b := ⟨_, rfl⟩
  refine goJ4_isLatin1 hF 20 ?_
  simp (disch := omega) only [wJ4_isLatin1_0, uJ4_isLatin1_0, wJ4_isLatin1_3, wJ4_isLatin1_6, wJ4_isLatin1_7, wJ4_isLatin1_10, wJ4_isLatin1_13, wJ4_isLatin1_14, wJ4_isLatin1_17, wJ4_isLatin1_18, amSI_1, amSI_2, amSI_3, amSI_s, amU_at, amIsR_ref, amIsR_null, amIsR_rf, amRf_some, amRf_none, amClr_int, amClr_ref, amClr_null, amClr_long, amClr_ra, amClr_rf, amFit_int, amFit_oref, amFit_aref, amFit_onull, amFit_anull, amOptSome, amOptNone, List.cons_append, List.nil_append, true_and, and_true, true_implies, not_true_eq_false, not_false_eq_true, false_implies, and_self, Nat.add_zero, Nat.zero_add, ne_eq, Prod.mk.injEq, amC01_0, amC01_1, amC01_nb, amNb0, amNb1, amTcpI_d, Nat.reduceLeDiff, Nat.reduceAdd, Nat.reduceSub, Nat.reduceEqDiff, Nat.le_refl, amN0le, amLeI, amLtI, amEqI, amLe0, amGt0, amEq0, amNotPosI, amGe0, amVI, amCl_nI, amAdd, amSub, amMul, h1, h2]
  exact amRet.of (by decide) (by decide) hK
theorem tJ4_isLatin1_d {b : Nat} {h : amH} {K : Option Value → amH → Prop} : tJ4_isLatin1 [.ref b] h K = (h.1 b = (0, 8) ∧ h.2.1 b 1 = nI 0 ∧ K (some (.int (nI 1))) h) := rfl
def tJ10_newLength : amT := fun as h K => match as with
  | [.int a0, .int c0, .int d0] => ∃ a c d : Nat, a0 = nI a ∧ c0 = nI c ∧ d0 = nI d ∧ a < 100000 ∧ c < 100000 ∧ d < 100000 ∧ 0 < d ∧ K (some (.int (nI (a + max c d)))) h
  | _ => False
/-! jdk/internal/util/ArraysSupport.newLength(III)I -/
def kJ10_newLength : Nat → Bool := fun pc => false
def rJ10_newLength : List (Nat × amS) := [(3, 2, 0, 0, amTmax), (14, 0, 0, 0, amTcon (.int (2147483639)))]
def eJ10_newLength (ret : Option Value → amH → Nat → Nat → Prop) (F : amX) : Nat → amX := amWp cJ10_newLength kJ10_newLength (amLk rJ10_newLength) (some .int) 0 0 ret F
def sJ10_newLength (ret : Option Value → amH → Nat → Nat → Prop) (F : amX) : Nat → amX := amWs cJ10_newLength kJ10_newLength (amLk rJ10_newLength) (some .int) 0 0 ret F
theorem wJ10_newLength_0 {ret F n h} {v1 v2 v3 st x} : eJ10_newLength ret F (n + 1) 0 [.int x, v1, v2, v3] (st) h 0 0 = (eJ10_newLength ret F n 1 [.int x, v1, v2, v3] (.int x :: st) h 0 0) := (amWp_dec rfl dJ10_newLength_0 rfl).trans rfl
theorem uJ10_newLength_0 {ret F n h} {v1 v2 v3 st x} : sJ10_newLength ret F n 0 [.int x, v1, v2, v3] (st) h 0 0 = (eJ10_newLength ret F n 1 [.int x, v1, v2, v3] (.int x :: st) h 0 0) := (amWs_dec dJ10_newLength_0 rfl).trans rfl
theorem wJ10_newLength_1 {ret F n h} {v0 v2 v3 st x} : eJ10_newLength ret F (n + 1) 1 [v0, .int x, v2, v3] (st) h 0 0 = (eJ10_newLength ret F n 2 [v0, .int x, v2, v3] (.int x :: st) h 0 0) := (amWp_dec rfl dJ10_newLength_1 rfl).trans rfl
theorem wJ10_newLength_2 {ret F n h} {v0 v1 v3 st x} : eJ10_newLength ret F (n + 1) 2 [v0, v1, .int x, v3] (st) h 0 0 = (eJ10_newLength ret F n 3 [v0, v1, .int x, v3] (.int x :: st) h 0 0) := (amWp_dec rfl dJ10_newLength_2 rfl).trans rfl
theorem wJ10_newLength_3 {ret F n h} {v0 v1 v2 v3 x1 x0 r0} : eJ10_newLength ret F (n + 1) 3 [v0, v1, v2, v3] (.int x1 :: .int x0 :: r0 :: []) h 0 0 = (amTmax [.int x0, .int x1] h (fun v h => eJ10_newLength ret F n 6 [v0, v1, v2, v3] (v.toList ++ (r0 :: [])) h 0 0)) := (amWp_dec rfl dJ10_newLength_3 rfl).trans (amS4 (Nat.le_of_ble_eq_true rfl) (Nat.le_of_ble_eq_true rfl) (Nat.le_of_ble_eq_true rfl) (Nat.le_of_ble_eq_true rfl))
theorem wJ10_newLength_6 {ret F n h} {v0 v1 v2 v3 st y x} : eJ10_newLength ret F (n + 1) 6 [v0, v1, v2, v3] (.int y :: .int x :: st) h 0 0 = (eJ10_newLength ret F n 7 [v0, v1, v2, v3] (.int (x + y) :: st) h 0 0) := (amWp_dec rfl dJ10_newLength_6 rfl).trans rfl
theorem wJ10_newLength_7 {ret F n h} {v0 v1 v2 v3 st x} : eJ10_newLength ret F (n + 1) 7 [v0, v1, v2, v3] (.int x :: st) h 0 0 = (eJ10_newLength ret F n 8 [v0, v1, amClr v2, .int x] (st) h 0 0) := (amWp_dec rfl dJ10_newLength_7 rfl).trans (amTrue (Nat.le_of_ble_eq_true rfl))
theorem wJ10_newLength_8 {ret F n h} {v0 v1 v2 v3 st} : eJ10_newLength ret F (n + 1) 8 [v0, v1, v2, v3] (st) h 0 0 = (eJ10_newLength ret F n 9 [v0, v1, v2, v3] (.int (nI 0) :: st) h 0 0) := (amWp_dec rfl dJ10_newLength_8 rfl).trans rfl
theorem wJ10_newLength_9 {ret F n h} {v0 v1 v2 st x} : eJ10_newLength ret F (n + 1) 9 [v0, v1, v2, .int x] (st) h 0 0 = (eJ10_newLength ret F n 10 [v0, v1, v2, .int x] (.int x :: st) h 0 0) := (amWp_dec rfl dJ10_newLength_9 rfl).trans rfl
theorem wJ10_newLength_10 {ret F n h} {v0 v1 v2 v3 st y x} : eJ10_newLength ret F (n + 1) 10 [v0, v1, v2, v3] (.int y :: .int x :: st) h 0 0 = ((y ≤ x → eJ10_newLength ret F n 21 [v0, v1, v2, v3] (st) h 0 0) ∧ (¬ y ≤ x → eJ10_newLength ret F n 13 [v0, v1, v2, v3] (st) h 0 0)) := (amWp_dec rfl dJ10_newLength_10 rfl).trans rfl
theorem wJ10_newLength_13 {ret F n h} {v0 v1 v2 st x} : eJ10_newLength ret F (n + 1) 13 [v0, v1, v2, .int x] (st) h 0 0 = (eJ10_newLength ret F n 14 [v0, v1, v2, .int x] (.int x :: st) h 0 0) := (amWp_dec rfl dJ10_newLength_13 rfl).trans rfl
theorem wJ10_newLength_14 {ret F n h} {v0 v1 v2 v3 r0} : eJ10_newLength ret F (n + 1) 14 [v0, v1, v2, v3] (r0 :: []) h 0 0 = (eJ10_newLength ret F n 16 [v0, v1, v2, v3] (.int (nI 2147483639) :: r0 :: []) h 0 0) := (amWp_dec rfl dJ10_newLength_14 rfl).trans (amS4 (Nat.le_of_ble_eq_true rfl) (Nat.le_of_ble_eq_true rfl) (Nat.le_of_ble_eq_true rfl) (Nat.le_of_ble_eq_true rfl))
theorem wJ10_newLength_16 {ret F n h} {v0 v1 v2 v3 st y x} : eJ10_newLength ret F (n + 1) 16 [v0, v1, v2, v3] (.int y :: .int x :: st) h 0 0 = ((y < x → eJ10_newLength ret F n 21 [v0, v1, v2, v3] (st) h 0 0) ∧ (¬ y < x → eJ10_newLength ret F n 19 [v0, v1, v2, v3] (st) h 0 0)) := (amWp_dec rfl dJ10_newLength_16 rfl).trans rfl
theorem wJ10_newLength_19 {ret F n h} {v0 v1 v2 st x} : eJ10_newLength ret F (n + 1) 19 [v0, v1, v2, .int x] (st) h 0 0 = (eJ10_newLength ret F n 20 [v0, v1, v2, .int x] (.int x :: st) h 0 0) := (amWp_dec rfl dJ10_newLength_19 rfl).trans rfl
theorem wJ10_newLength_20 {ret F n h} {v0 v1 v2 v3 x} : eJ10_newLength ret F (n + 1) 20 [v0, v1, v2, v3] ([.int x]) h 0 0 = (ret (some (.int x)) h 0 0) := (amWp_dec rfl dJ10_newLength_20 rfl).trans (amTrue ⟨_, rfl, rfl⟩)
theorem evJ10_newLength (l : Launch) (G : amG) : ∀ pc S i sz, amLk rJ10_newLength pc = some S → decode cJ10_newLength pc = .ok (i, sz) → amSiteP pc G l yJ10_newLength.cls yJ10_newLength.name yJ10_newLength.desc (amRm 1 0 0) i sz S.1 S.2.1 S.2.2.1 S.2.2.2 := amLk_ok (by
  refine List.forall_mem_cons.mpr ⟨⟨_, _, dJ10_newLength_3, amSite.P (amSiteMax rfl (by decide) q660)⟩, ?_⟩
  refine List.forall_mem_cons.mpr ⟨⟨_, _, dJ10_newLength_14, amSite.P (amSiteLdc q661)⟩, ?_⟩
  exact fun _ h => absurd h List.not_mem_nil)
theorem goJ10_newLength {ret F} (hF : amCld cJ10_newLength kJ10_newLength (amLk rJ10_newLength) (some .int) 0 0 ret F) (n : Nat) {pc ls st h k z} (q : sJ10_newLength ret F n pc ls st h k z) : F pc ls st h k z := hF.1 n pc ls st h k z q
theorem metJ10_newLength (l : Launch) (G : amG) : amMet l G yJ10_newLength (ws_ yJ10_newLength cJ10_newLength 4 (some .int)) 1 0 0 tJ10_newLength := by
  refine amMet_of (cut := kJ10_newLength) (by decide +kernel) (evJ10_newLength l G) ?_
  intro as h K hT
  match as, hT with
  | [.int a0, .int c0, .int d0], ⟨a, c, d, e1, e2, e3, ha, hc, hd, d00, hK⟩ =>
  refine ⟨Nat.le_of_ble_eq_true rfl, fun F hF => ?_⟩
  show F 0 [.int a0, .int c0, .int d0, .retAddr 0] [] h 0 0
  subst e1 e2 e3
  have m1 := maxN (a := c) (b := d) (by omega) (by omega)
  have m2 : max c d < 100000 := by omega
  have m3 : 0 < max c d := by omega
  refine goJ10_newLength hF 20 ?_
  simp (disch := omega) only [wJ10_newLength_0, uJ10_newLength_0, wJ10_newLength_1, wJ10_newLength_2, wJ10_newLength_3, wJ10_newLength_6, wJ10_newLength_7, wJ10_newLength_8, wJ10_newLength_9, wJ10_newLength_10, wJ10_newLength_13, wJ10_newLength_14, wJ10_newLength_16, wJ10_newLength_19, wJ10_newLength_20, amSI_1, amSI_2, amSI_3, amSI_s, amU_at, amIsR_ref, amIsR_null, amIsR_rf, amRf_some, amRf_none, amClr_int, amClr_ref, amClr_null, amClr_long, amClr_ra, amClr_rf, amFit_int, amFit_oref, amFit_aref, amFit_onull, amFit_anull, amOptSome, amOptNone, List.cons_append, List.nil_append, true_and, and_true, true_implies, not_true_eq_false, not_false_eq_true, false_implies, and_self, Nat.add_zero, Nat.zero_add, ne_eq, Prod.mk.injEq, amC01_0, amC01_1, amC01_nb, amNb0, amNb1, amTcpI_d, Nat.reduceLeDiff, Nat.reduceAdd, Nat.reduceSub, Nat.reduceEqDiff, Nat.le_refl, amN0le, amTmax_d, m1, amAdd]
  generalize max c d = g at m2 m3 hK
  have q1 : (nI (a + g) ≤ nI 0) = False := eq_false (by rw [amLeI (by omega) (by decide)]; omega)
  have q2 : (nI 2147483639 < nI (a + g)) = False := eq_false (by rw [amLtI (by decide) (by omega)]; omega)
  simp (disch := omega) only [wJ10_newLength_0, uJ10_newLength_0, wJ10_newLength_1, wJ10_newLength_2, wJ10_newLength_3, wJ10_newLength_6, wJ10_newLength_7, wJ10_newLength_8, wJ10_newLength_9, wJ10_newLength_10, wJ10_newLength_13, wJ10_newLength_14, wJ10_newLength_16, wJ10_newLength_19, wJ10_newLength_20, amSI_1, amSI_2, amSI_3, amSI_s, amU_at, amIsR_ref, amIsR_null, amIsR_rf, amRf_some, amRf_none, amClr_int, amClr_ref, amClr_null, amClr_long, amClr_ra, amClr_rf, amFit_int, amFit_oref, amFit_aref, amFit_onull, amFit_anull, amOptSome, amOptNone, List.cons_append, List.nil_append, true_and, and_true, true_implies, not_true_eq_false, not_false_eq_true, false_implies, and_self, Nat.add_zero, Nat.zero_add, ne_eq, Prod.mk.injEq, amC01_0, amC01_1, amC01_nb, amNb0, amNb1, amTcpI_d, Nat.reduceLeDiff, Nat.reduceAdd, Nat.reduceSub, Nat.reduceEqDiff, Nat.le_refl, amN0le, q1, q2]
  exact amRet.of (by decide) (by decide) hK
theorem tJ10_newLength_d {a0 c0 d0 : Int32} {h : amH} {K : Option Value → amH → Prop} : tJ10_newLength [.int a0, .int c0, .int d0] h K = ∃ a c d : Nat, a0 = nI a ∧ c0 = nI c ∧ d0 = nI d ∧ a < 100000 ∧ c < 100000 ∧ d < 100000 ∧ 0 < d ∧ K (some (.int (nI (a + max c d)))) h := rfl
def tJ4_newCapacity : amT := fun as h K => match as with
  | [.ref b, .int x] => ∃ v cap m : Nat, h.1 b = (0, 8) ∧ h.2.2.2.1 b 0 = some v ∧ h.2.1 b 1 = nI 0 ∧ h.1 v = (2, cap) ∧ x = nI m ∧ cap < m ∧ m ≤ 1000 ∧ K (some (.int (nI (cap + max (m - cap) (cap + 2))))) h
  | _ => False
/-! java/lang/AbstractStringBuilder.newCapacity(I)I -/
def kJ4_newCapacity : Nat → Bool := fun pc => false
def rJ4_newCapacity : List (Nat × amS) := [(1, 1, 0, 0, amTget 8 0), (8, 1, 0, 0, amTget 8 1), (24, 1, 0, 0, amTget 8 1), (29, 3, 0, 0, tJ10_newLength), (36, 0, 0, 0, amTcon (.int (2147483647))), (54, 1, 0, 0, amTget 8 1)]
def eJ4_newCapacity (ret : Option Value → amH → Nat → Nat → Prop) (F : amX) : Nat → amX := amWp cJ4_newCapacity kJ4_newCapacity (amLk rJ4_newCapacity) (some .int) 0 0 ret F
def sJ4_newCapacity (ret : Option Value → amH → Nat → Nat → Prop) (F : amX) : Nat → amX := amWs cJ4_newCapacity kJ4_newCapacity (amLk rJ4_newCapacity) (some .int) 0 0 ret F
theorem wJ4_newCapacity_0 {ret F n h} {v0 v1 v2 v3 v4 v5 st} : eJ4_newCapacity ret F (n + 1) 0 [v0, v1, v2, v3, v4, v5] (st) h 0 0 = (amIsR v0 ∧ eJ4_newCapacity ret F n 1 [v0, v1, v2, v3, v4, v5] (v0 :: st) h 0 0) := (amWp_dec rfl dJ4_newCapacity_0 rfl).trans rfl
theorem uJ4_newCapacity_0 {ret F n h} {v0 v1 v2 v3 v4 v5 st} : sJ4_newCapacity ret F n 0 [v0, v1, v2, v3, v4, v5] (st) h 0 0 = (amIsR v0 ∧ eJ4_newCapacity ret F n 1 [v0, v1, v2, v3, v4, v5] (v0 :: st) h 0 0) := (amWs_dec dJ4_newCapacity_0 rfl).trans rfl
theorem wJ4_newCapacity_1 {ret F n h} {v0 v1 v2 v3 v4 v5 a} : eJ4_newCapacity ret F (n + 1) 1 [v0, v1, v2, v3, v4, v5] (.ref a :: []) h 0 0 = (h.1 a = (0, 8) ∧ eJ4_newCapacity ret F n 4 [v0, v1, v2, v3, v4, v5] (va_rf (h.2.2.2.1 a 0) :: []) h 0 0) := (amWp_dec rfl dJ4_newCapacity_1 rfl).trans (amS4 (Nat.le_of_ble_eq_true rfl) (Nat.le_of_ble_eq_true rfl) (Nat.le_of_ble_eq_true rfl) (Nat.le_of_ble_eq_true rfl))
theorem wJ4_newCapacity_4 {ret F n h} {v0 v1 v2 v3 v4 v5 st a} : eJ4_newCapacity ret F (n + 1) 4 [v0, v1, v2, v3, v4, v5] (.ref a :: st) h 0 0 = (1 ≤ (h.1 a).1 ∧ (h.1 a).1 ≤ 8 ∧ eJ4_newCapacity ret F n 5 [v0, v1, v2, v3, v4, v5] (.int (nI (h.1 a).2) :: st) h 0 0) := (amWp_dec rfl dJ4_newCapacity_4 rfl).trans rfl
theorem wJ4_newCapacity_5 {ret F n h} {v0 v1 v2 v3 v4 v5 st x} : eJ4_newCapacity ret F (n + 1) 5 [v0, v1, v2, v3, v4, v5] (.int x :: st) h 0 0 = (eJ4_newCapacity ret F n 6 [v0, amClr v1, .int x, v3, v4, v5] (st) h 0 0) := (amWp_dec rfl dJ4_newCapacity_5 rfl).trans (amTrue (Nat.le_of_ble_eq_true rfl))
theorem wJ4_newCapacity_6 {ret F n h} {v0 v2 v3 v4 v5 st x} : eJ4_newCapacity ret F (n + 1) 6 [v0, .int x, v2, v3, v4, v5] (st) h 0 0 = (eJ4_newCapacity ret F n 7 [v0, .int x, v2, v3, v4, v5] (.int x :: st) h 0 0) := (amWp_dec rfl dJ4_newCapacity_6 rfl).trans rfl
theorem wJ4_newCapacity_7 {ret F n h} {v0 v1 v2 v3 v4 v5 st} : eJ4_newCapacity ret F (n + 1) 7 [v0, v1, v2, v3, v4, v5] (st) h 0 0 = (amIsR v0 ∧ eJ4_newCapacity ret F n 8 [v0, v1, v2, v3, v4, v5] (v0 :: st) h 0 0) := (amWp_dec rfl dJ4_newCapacity_7 rfl).trans rfl
theorem wJ4_newCapacity_8 {ret F n h} {v0 v1 v2 v3 v4 v5 r0 a} : eJ4_newCapacity ret F (n + 1) 8 [v0, v1, v2, v3, v4, v5] (.ref a :: r0 :: []) h 0 0 = (h.1 a = (0, 8) ∧ eJ4_newCapacity ret F n 11 [v0, v1, v2, v3, v4, v5] (.int (h.2.1 a 1) :: r0 :: []) h 0 0) := (amWp_dec rfl dJ4_newCapacity_8 rfl).trans (amS4 (Nat.le_of_ble_eq_true rfl) (Nat.le_of_ble_eq_true rfl) (Nat.le_of_ble_eq_true rfl) (Nat.le_of_ble_eq_true rfl))
theorem wJ4_newCapacity_11 {ret F n h} {v0 v1 v2 v3 v4 v5 st y x} : eJ4_newCapacity ret F (n + 1) 11 [v0, v1, v2, v3, v4, v5] (.int y :: .int x :: st) h 0 0 = (eJ4_newCapacity ret F n 12 [v0, v1, v2, v3, v4, v5] (.int (x <<< (y &&& 31)) :: st) h 0 0) := (amWp_dec rfl dJ4_newCapacity_11 rfl).trans rfl
theorem wJ4_newCapacity_12 {ret F n h} {v0 v1 v2 v3 v4 v5 st x} : eJ4_newCapacity ret F (n + 1) 12 [v0, v1, v2, v3, v4, v5] (.int x :: st) h 0 0 = (eJ4_newCapacity ret F n 13 [v0, v1, amClr v2, .int x, v4, v5] (st) h 0 0) := (amWp_dec rfl dJ4_newCapacity_12 rfl).trans (amTrue (Nat.le_of_ble_eq_true rfl))
theorem wJ4_newCapacity_13 {ret F n h} {v0 v1 v2 v4 v5 st x} : eJ4_newCapacity ret F (n + 1) 13 [v0, v1, v2, .int x, v4, v5] (st) h 0 0 = (eJ4_newCapacity ret F n 14 [v0, v1, v2, .int x, v4, v5] (.int x :: st) h 0 0) := (amWp_dec rfl dJ4_newCapacity_13 rfl).trans rfl
theorem wJ4_newCapacity_14 {ret F n h} {v0 v1 v3 v4 v5 st x} : eJ4_newCapacity ret F (n + 1) 14 [v0, v1, .int x, v3, v4, v5] (st) h 0 0 = (eJ4_newCapacity ret F n 15 [v0, v1, .int x, v3, v4, v5] (.int x :: st) h 0 0) := (amWp_dec rfl dJ4_newCapacity_14 rfl).trans rfl
theorem wJ4_newCapacity_15 {ret F n h} {v0 v1 v2 v3 v4 v5 st y x} : eJ4_newCapacity ret F (n + 1) 15 [v0, v1, v2, v3, v4, v5] (.int y :: .int x :: st) h 0 0 = (eJ4_newCapacity ret F n 16 [v0, v1, v2, v3, v4, v5] (.int (x - y) :: st) h 0 0) := (amWp_dec rfl dJ4_newCapacity_15 rfl).trans rfl
theorem wJ4_newCapacity_16 {ret F n h} {v0 v1 v2 v3 v4 v5 st x} : eJ4_newCapacity ret F (n + 1) 16 [v0, v1, v2, v3, v4, v5] (.int x :: st) h 0 0 = (eJ4_newCapacity ret F n 18 [v0, v1, v2, amClr v3, .int x, v5] (st) h 0 0) := (amWp_dec rfl dJ4_newCapacity_16 rfl).trans (amTrue (Nat.le_of_ble_eq_true rfl))
theorem wJ4_newCapacity_18 {ret F n h} {v0 v1 v3 v4 v5 st x} : eJ4_newCapacity ret F (n + 1) 18 [v0, v1, .int x, v3, v4, v5] (st) h 0 0 = (eJ4_newCapacity ret F n 19 [v0, v1, .int x, v3, v4, v5] (.int x :: st) h 0 0) := (amWp_dec rfl dJ4_newCapacity_18 rfl).trans rfl
theorem wJ4_newCapacity_19 {ret F n h} {v0 v1 v2 v3 v5 st x} : eJ4_newCapacity ret F (n + 1) 19 [v0, v1, v2, v3, .int x, v5] (st) h 0 0 = (eJ4_newCapacity ret F n 21 [v0, v1, v2, v3, .int x, v5] (.int x :: st) h 0 0) := (amWp_dec rfl dJ4_newCapacity_19 rfl).trans rfl
theorem wJ4_newCapacity_21 {ret F n h} {v0 v1 v3 v4 v5 st x} : eJ4_newCapacity ret F (n + 1) 21 [v0, v1, .int x, v3, v4, v5] (st) h 0 0 = (eJ4_newCapacity ret F n 22 [v0, v1, .int x, v3, v4, v5] (.int x :: st) h 0 0) := (amWp_dec rfl dJ4_newCapacity_21 rfl).trans rfl
theorem wJ4_newCapacity_22 {ret F n h} {v0 v1 v2 v3 v4 v5 st} : eJ4_newCapacity ret F (n + 1) 22 [v0, v1, v2, v3, v4, v5] (st) h 0 0 = (eJ4_newCapacity ret F n 23 [v0, v1, v2, v3, v4, v5] (.int (nI 2) :: st) h 0 0) := (amWp_dec rfl dJ4_newCapacity_22 rfl).trans rfl
theorem wJ4_newCapacity_23 {ret F n h} {v0 v1 v2 v3 v4 v5 st} : eJ4_newCapacity ret F (n + 1) 23 [v0, v1, v2, v3, v4, v5] (st) h 0 0 = (amIsR v0 ∧ eJ4_newCapacity ret F n 24 [v0, v1, v2, v3, v4, v5] (v0 :: st) h 0 0) := (amWp_dec rfl dJ4_newCapacity_23 rfl).trans rfl
theorem wJ4_newCapacity_24 {ret F n h} {v0 v1 v2 v3 v4 v5 r0 r1 r2 r3 a} : eJ4_newCapacity ret F (n + 1) 24 [v0, v1, v2, v3, v4, v5] (.ref a :: r0 :: r1 :: r2 :: r3 :: []) h 0 0 = (h.1 a = (0, 8) ∧ eJ4_newCapacity ret F n 27 [v0, v1, v2, v3, v4, v5] (.int (h.2.1 a 1) :: r0 :: r1 :: r2 :: r3 :: []) h 0 0) := (amWp_dec rfl dJ4_newCapacity_24 rfl).trans (amS4 (Nat.le_of_ble_eq_true rfl) (Nat.le_of_ble_eq_true rfl) (Nat.le_of_ble_eq_true rfl) (Nat.le_of_ble_eq_true rfl))
theorem wJ4_newCapacity_27 {ret F n h} {v0 v1 v2 v3 v4 v5 st y x} : eJ4_newCapacity ret F (n + 1) 27 [v0, v1, v2, v3, v4, v5] (.int y :: .int x :: st) h 0 0 = (eJ4_newCapacity ret F n 28 [v0, v1, v2, v3, v4, v5] (.int (x <<< (y &&& 31)) :: st) h 0 0) := (amWp_dec rfl dJ4_newCapacity_27 rfl).trans rfl
theorem wJ4_newCapacity_28 {ret F n h} {v0 v1 v2 v3 v4 v5 st y x} : eJ4_newCapacity ret F (n + 1) 28 [v0, v1, v2, v3, v4, v5] (.int y :: .int x :: st) h 0 0 = (eJ4_newCapacity ret F n 29 [v0, v1, v2, v3, v4, v5] (.int (x + y) :: st) h 0 0) := (amWp_dec rfl dJ4_newCapacity_28 rfl).trans rfl
theorem wJ4_newCapacity_29 {ret F n h} {v0 v1 v2 v3 v4 v5 x2 x1 x0} : eJ4_newCapacity ret F (n + 1) 29 [v0, v1, v2, v3, v4, v5] (.int x2 :: .int x1 :: .int x0 :: []) h 0 0 = (tJ10_newLength [.int x0, .int x1, .int x2] h (fun v h => eJ4_newCapacity ret F n 32 [v0, v1, v2, v3, v4, v5] (v.toList ++ ([])) h 0 0)) := (amWp_dec rfl dJ4_newCapacity_29 rfl).trans (amS4 (Nat.le_of_ble_eq_true rfl) (Nat.le_of_ble_eq_true rfl) (Nat.le_of_ble_eq_true rfl) (Nat.le_of_ble_eq_true rfl))
theorem wJ4_newCapacity_32 {ret F n h} {v0 v1 v2 v3 v4 v5 st x} : eJ4_newCapacity ret F (n + 1) 32 [v0, v1, v2, v3, v4, v5] (.int x :: st) h 0 0 = (eJ4_newCapacity ret F n 34 [v0, v1, v2, v3, amClr v4, .int x] (st) h 0 0) := (amWp_dec rfl dJ4_newCapacity_32 rfl).trans (amTrue (Nat.le_of_ble_eq_true rfl))
theorem wJ4_newCapacity_34 {ret F n h} {v0 v1 v2 v3 v4 st x} : eJ4_newCapacity ret F (n + 1) 34 [v0, v1, v2, v3, v4, .int x] (st) h 0 0 = (eJ4_newCapacity ret F n 36 [v0, v1, v2, v3, v4, .int x] (.int x :: st) h 0 0) := (amWp_dec rfl dJ4_newCapacity_34 rfl).trans rfl
theorem wJ4_newCapacity_36 {ret F n h} {v0 v1 v2 v3 v4 v5 r0} : eJ4_newCapacity ret F (n + 1) 36 [v0, v1, v2, v3, v4, v5] (r0 :: []) h 0 0 = (eJ4_newCapacity ret F n 38 [v0, v1, v2, v3, v4, v5] (.int (nI 2147483647) :: r0 :: []) h 0 0) := (amWp_dec rfl dJ4_newCapacity_36 rfl).trans (amS4 (Nat.le_of_ble_eq_true rfl) (Nat.le_of_ble_eq_true rfl) (Nat.le_of_ble_eq_true rfl) (Nat.le_of_ble_eq_true rfl))
theorem wJ4_newCapacity_38 {ret F n h} {v0 v1 v2 v3 v4 v5 st y x} : eJ4_newCapacity ret F (n + 1) 38 [v0, v1, v2, v3, v4, v5] (.int y :: .int x :: st) h 0 0 = ((¬ x = y → eJ4_newCapacity ret F n 51 [v0, v1, v2, v3, v4, v5] (st) h 0 0) ∧ (x = y → eJ4_newCapacity ret F n 41 [v0, v1, v2, v3, v4, v5] (st) h 0 0)) := (amWp_dec rfl dJ4_newCapacity_38 rfl).trans rfl
theorem wJ4_newCapacity_51 {ret F n h} {v0 v1 v2 v3 v4 st x} : eJ4_newCapacity ret F (n + 1) 51 [v0, v1, v2, v3, v4, .int x] (st) h 0 0 = (eJ4_newCapacity ret F n 53 [v0, v1, v2, v3, v4, .int x] (.int x :: st) h 0 0) := (amWp_dec rfl dJ4_newCapacity_51 rfl).trans rfl
theorem wJ4_newCapacity_53 {ret F n h} {v0 v1 v2 v3 v4 v5 st} : eJ4_newCapacity ret F (n + 1) 53 [v0, v1, v2, v3, v4, v5] (st) h 0 0 = (amIsR v0 ∧ eJ4_newCapacity ret F n 54 [v0, v1, v2, v3, v4, v5] (v0 :: st) h 0 0) := (amWp_dec rfl dJ4_newCapacity_53 rfl).trans rfl
theorem wJ4_newCapacity_54 {ret F n h} {v0 v1 v2 v3 v4 v5 r0 a} : eJ4_newCapacity ret F (n + 1) 54 [v0, v1, v2, v3, v4, v5] (.ref a :: r0 :: []) h 0 0 = (h.1 a = (0, 8) ∧ eJ4_newCapacity ret F n 57 [v0, v1, v2, v3, v4, v5] (.int (h.2.1 a 1) :: r0 :: []) h 0 0) := (amWp_dec rfl dJ4_newCapacity_54 rfl).trans (amS4 (Nat.le_of_ble_eq_true rfl) (Nat.le_of_ble_eq_true rfl) (Nat.le_of_ble_eq_true rfl) (Nat.le_of_ble_eq_true rfl))
theorem wJ4_newCapacity_57 {ret F n h} {v0 v1 v2 v3 v4 v5 st y x} : eJ4_newCapacity ret F (n + 1) 57 [v0, v1, v2, v3, v4, v5] (.int y :: .int x :: st) h 0 0 = (eJ4_newCapacity ret F n 58 [v0, v1, v2, v3, v4, v5] (.int (x >>> (y &&& 31)) :: st) h 0 0) := (amWp_dec rfl dJ4_newCapacity_57 rfl).trans rfl
theorem wJ4_newCapacity_58 {ret F n h} {v0 v1 v2 v3 v4 v5 x} : eJ4_newCapacity ret F (n + 1) 58 [v0, v1, v2, v3, v4, v5] ([.int x]) h 0 0 = (ret (some (.int x)) h 0 0) := (amWp_dec rfl dJ4_newCapacity_58 rfl).trans (amTrue ⟨_, rfl, rfl⟩)
theorem evJ4_newCapacity (l : Launch) (G : amG) : ∀ pc S i sz, amLk rJ4_newCapacity pc = some S → decode cJ4_newCapacity pc = .ok (i, sz) → amSiteP pc G l yJ4_newCapacity.cls yJ4_newCapacity.name yJ4_newCapacity.desc (amRm 2 0 0) i sz S.1 S.2.1 S.2.2.1 S.2.2.2 := amLk_ok (by
  refine List.forall_mem_cons.mpr ⟨⟨_, _, dJ4_newCapacity_1, amSite.P (amSiteGet ⟨_, rfl, by decide, Or.inl q623⟩)⟩, ?_⟩
  refine List.forall_mem_cons.mpr ⟨⟨_, _, dJ4_newCapacity_8, amSite.P (amSiteGet ⟨_, rfl, by decide, Or.inl q624⟩)⟩, ?_⟩
  refine List.forall_mem_cons.mpr ⟨⟨_, _, dJ4_newCapacity_24, amSite.P (amSiteGet ⟨_, rfl, by decide, Or.inl q624⟩)⟩, ?_⟩
  refine List.forall_mem_cons.mpr ⟨⟨_, _, dJ4_newCapacity_29, amSite.P (amSiteS (metJ10_newLength l G) rfl (by decide) (by decide) (lw_S q657 q658 q106 q659) ⟨by decide +kernel, by decide +kernel, by decide +kernel⟩)⟩, ?_⟩
  refine List.forall_mem_cons.mpr ⟨⟨_, _, dJ4_newCapacity_36, amSite.P (amSiteLdc q665)⟩, ?_⟩
  refine List.forall_mem_cons.mpr ⟨⟨_, _, dJ4_newCapacity_54, amSite.P (amSiteGet ⟨_, rfl, by decide, Or.inl q624⟩)⟩, ?_⟩
  exact fun _ h => absurd h List.not_mem_nil)
theorem goJ4_newCapacity {ret F} (hF : amCld cJ4_newCapacity kJ4_newCapacity (amLk rJ4_newCapacity) (some .int) 0 0 ret F) (n : Nat) {pc ls st h k z} (q : sJ4_newCapacity ret F n pc ls st h k z) : F pc ls st h k z := hF.1 n pc ls st h k z q
theorem metJ4_newCapacity (l : Launch) (G : amG) : amMet l G yJ4_newCapacity (ws_ yJ4_newCapacity cJ4_newCapacity 6 (some .int)) 2 0 0 tJ4_newCapacity := by
  refine amMet_of (cut := kJ4_newCapacity) (by decide +kernel) (evJ4_newCapacity l G) ?_
  intro as h K hT
  match as, hT with
  | [.ref b, .int x], ⟨v, cap, m, h1, h2, h3, h4, e, cm, m1, hK⟩ =>
  refine ⟨Nat.le_of_ble_eq_true rfl, fun F hF => ?_⟩
  show F 0 [.ref b, .int x, .retAddr 0, .retAddr 0, .retAddr 0, .retAddr 0] [] h 0 0
  obtain ⟨b, rfl⟩ : ∃ i : Nat, i = b := ⟨_, rfl⟩
  subst e
  have s1 : nI m - nI cap = nI (m - cap) := amSub (by omega)
  refine goJ4_newCapacity hF 60 ?_
  simp (disch := omega) only [wJ4_newCapacity_0, uJ4_newCapacity_0, wJ4_newCapacity_1, wJ4_newCapacity_4, wJ4_newCapacity_5, wJ4_newCapacity_6, wJ4_newCapacity_7, wJ4_newCapacity_8, wJ4_newCapacity_11, wJ4_newCapacity_12, wJ4_newCapacity_13, wJ4_newCapacity_14, wJ4_newCapacity_15, wJ4_newCapacity_16, wJ4_newCapacity_18, wJ4_newCapacity_19, wJ4_newCapacity_21, wJ4_newCapacity_22, wJ4_newCapacity_23, wJ4_newCapacity_24, wJ4_newCapacity_27, wJ4_newCapacity_28, wJ4_newCapacity_29, wJ4_newCapacity_32, wJ4_newCapacity_34, wJ4_newCapacity_36, wJ4_newCapacity_38, wJ4_newCapacity_51, wJ4_newCapacity_53, wJ4_newCapacity_54, wJ4_newCapacity_57, wJ4_newCapacity_58, amSI_1, amSI_2, amSI_3, amSI_s, amU_at, amIsR_ref, amIsR_null, amIsR_rf, amRf_some, amRf_none, amClr_int, amClr_ref, amClr_null, amClr_long, amClr_ra, amClr_rf, amFit_int, amFit_oref, amFit_aref, amFit_onull, amFit_anull, amOptSome, amOptNone, List.cons_append, List.nil_append, true_and, and_true, true_implies, not_true_eq_false, not_false_eq_true, false_implies, and_self, Nat.add_zero, Nat.zero_add, ne_eq, Prod.mk.injEq, amC01_0, amC01_1, amC01_nb, amNb0, amNb1, amTcpI_d, Nat.reduceLeDiff, Nat.reduceAdd, Nat.reduceSub, Nat.reduceEqDiff, Nat.le_refl, amN0le, h1, h2, h3, h4, amShl0, amShr0, s1, amAdd]
  refine ⟨cap, m - cap, cap + 2, rfl, rfl, rfl, by omega, by omega, by omega, by omega, ?_⟩
  have q2 : (nI (cap + max (m - cap) (cap + 2)) = nI 2147483647) = False := eq_false (fun z => by
    have := (nI_eq (by omega) (by decide)).mp z
    omega)
  simp (disch := omega) only [wJ4_newCapacity_0, uJ4_newCapacity_0, wJ4_newCapacity_1, wJ4_newCapacity_4, wJ4_newCapacity_5, wJ4_newCapacity_6, wJ4_newCapacity_7, wJ4_newCapacity_8, wJ4_newCapacity_11, wJ4_newCapacity_12, wJ4_newCapacity_13, wJ4_newCapacity_14, wJ4_newCapacity_15, wJ4_newCapacity_16, wJ4_newCapacity_18, wJ4_newCapacity_19, wJ4_newCapacity_21, wJ4_newCapacity_22, wJ4_newCapacity_23, wJ4_newCapacity_24, wJ4_newCapacity_27, wJ4_newCapacity_28, wJ4_newCapacity_29, wJ4_newCapacity_32, wJ4_newCapacity_34, wJ4_newCapacity_36, wJ4_newCapacity_38, wJ4_newCapacity_51, wJ4_newCapacity_53, wJ4_newCapacity_54, wJ4_newCapacity_57, wJ4_newCapacity_58, amSI_1, amSI_2, amSI_3, amSI_s, amU_at, amIsR_ref, amIsR_null, amIsR_rf, amRf_some, amRf_none, amClr_int, amClr_ref, amClr_null, amClr_long, amClr_ra, amClr_rf, amFit_int, amFit_oref, amFit_aref, amFit_onull, amFit_anull, amOptSome, amOptNone, List.cons_append, List.nil_append, true_and, and_true, true_implies, not_true_eq_false, not_false_eq_true, false_implies, and_self, Nat.add_zero, Nat.zero_add, ne_eq, Prod.mk.injEq, amC01_0, amC01_1, amC01_nb, amNb0, amNb1, amTcpI_d, Nat.reduceLeDiff, Nat.reduceAdd, Nat.reduceSub, Nat.reduceEqDiff, Nat.le_refl, amN0le, h1, h2, h3, h4, amShl0, amShr0, q2]
  exact amRet.of (by decide) (by decide) hK
theorem tJ4_newCapacity_d {b : Nat} {x : Int32} {h : amH} {K : Option Value → amH → Prop} : tJ4_newCapacity [.ref b, .int x] h K = ∃ v cap m : Nat, h.1 b = (0, 8) ∧ h.2.2.2.1 b 0 = some v ∧ h.2.1 b 1 = nI 0 ∧ h.1 v = (2, cap) ∧ x = nI m ∧ cap < m ∧ m ≤ 1000 ∧ K (some (.int (nI (cap + max (m - cap) (cap + 2))))) h := rfl
def tJ11_copyOf : amT := fun as h K => match as with
  | [.ref a, .int q0] => ∃ n q : Nat, h.1 a = (2, n) ∧ q0 = nI q ∧ n < q ∧ q ≤ 302 ∧ a < h.2.2.2.2 ∧ 24 ≤ h.2.2.2.2 ∧ ∀ h', h'.2.2.2.2 = h.2.2.2.2 + 1 → (∀ i, i < h.2.2.2.2 → amSame h h' i) → h'.1 h.2.2.2.2 = (2, q) → (∀ j, j < n → h'.2.1 h.2.2.2.2 j = h.2.1 a j) → K (some (.ref h.2.2.2.2)) h'
  | _ => False
/-! java/util/Arrays.copyOf([BI)[B -/
def kJ11_copyOf : Nat → Bool := fun pc => false
def rJ11_copyOf : List (Nat × amS) := [(25, 2, 0, 0, amTmin), (28, 5, 0, 0, amTcpI)]
def eJ11_copyOf (ret : Option Value → amH → Nat → Nat → Prop) (F : amX) : Nat → amX := amWp cJ11_copyOf kJ11_copyOf (amLk rJ11_copyOf) (some (FieldType.array FieldType.byte)) 1 302 ret F
def sJ11_copyOf (ret : Option Value → amH → Nat → Nat → Prop) (F : amX) : Nat → amX := amWs cJ11_copyOf kJ11_copyOf (amLk rJ11_copyOf) (some (FieldType.array FieldType.byte)) 1 302 ret F
theorem wJ11_copyOf_0 {ret F n h k z} {v0 v2 st x} : eJ11_copyOf ret F (n + 1) 0 [v0, .int x, v2] (st) h k z = (eJ11_copyOf ret F n 1 [v0, .int x, v2] (.int x :: st) h k z) := (amWp_dec rfl dJ11_copyOf_0 rfl).trans rfl
theorem uJ11_copyOf_0 {ret F n h k z} {v0 v2 st x} : sJ11_copyOf ret F n 0 [v0, .int x, v2] (st) h k z = (eJ11_copyOf ret F n 1 [v0, .int x, v2] (.int x :: st) h k z) := (amWs_dec dJ11_copyOf_0 rfl).trans rfl
theorem wJ11_copyOf_1 {ret F n h k z} {v0 v1 v2 st} : eJ11_copyOf ret F (n + 1) 1 [v0, v1, v2] (st) h k z = (amIsR v0 ∧ eJ11_copyOf ret F n 2 [v0, v1, v2] (v0 :: st) h k z) := (amWp_dec rfl dJ11_copyOf_1 rfl).trans rfl
theorem wJ11_copyOf_2 {ret F n h k z} {v0 v1 v2 st a} : eJ11_copyOf ret F (n + 1) 2 [v0, v1, v2] (.ref a :: st) h k z = (1 ≤ (h.1 a).1 ∧ (h.1 a).1 ≤ 8 ∧ eJ11_copyOf ret F n 3 [v0, v1, v2] (.int (nI (h.1 a).2) :: st) h k z) := (amWp_dec rfl dJ11_copyOf_2 rfl).trans rfl
theorem wJ11_copyOf_3 {ret F n h k z} {v0 v1 v2 st y x} : eJ11_copyOf ret F (n + 1) 3 [v0, v1, v2] (.int y :: .int x :: st) h k z = ((¬ x = y → eJ11_copyOf ret F n 14 [v0, v1, v2] (st) h k z) ∧ (x = y → eJ11_copyOf ret F n 6 [v0, v1, v2] (st) h k z)) := (amWp_dec rfl dJ11_copyOf_3 rfl).trans rfl
theorem wJ11_copyOf_14 {ret F n h k z} {v0 v2 st x} : eJ11_copyOf ret F (n + 1) 14 [v0, .int x, v2] (st) h k z = (eJ11_copyOf ret F n 15 [v0, .int x, v2] (.int x :: st) h k z) := (amWp_dec rfl dJ11_copyOf_14 rfl).trans rfl
theorem wJ11_copyOf_15 {ret F n h k z} {v0 v1 v2 st x} : eJ11_copyOf ret F (n + 1) 15 [v0, v1, v2] (.int x :: st) h k z = (¬ x < 0 ∧ x.toNatClampNeg ≤ 67108864 ∧ k + 1 ≤ 1 ∧ z + x.toNatClampNeg ≤ 302 ∧ eJ11_copyOf ret F n 17 [v0, v1, v2] (.ref h.2.2.2.2 :: st) (amNew h (2, x.toNatClampNeg)) (k + 1) (z + x.toNatClampNeg)) := (amWp_dec rfl dJ11_copyOf_15 rfl).trans (amTrue (Nat.le_of_ble_eq_true rfl))
theorem wJ11_copyOf_17 {ret F n h k z} {v0 v1 v2 w st} : eJ11_copyOf ret F (n + 1) 17 [v0, v1, v2] (w :: st) h k z = (amIsR w ∧ eJ11_copyOf ret F n 18 [v0, amClr v1, w] (st) h k z) := (amWp_dec rfl dJ11_copyOf_17 rfl).trans (amTrue2 (Nat.le_of_ble_eq_true rfl))
theorem wJ11_copyOf_18 {ret F n h k z} {v0 v1 v2 st} : eJ11_copyOf ret F (n + 1) 18 [v0, v1, v2] (st) h k z = (amIsR v0 ∧ eJ11_copyOf ret F n 19 [v0, v1, v2] (v0 :: st) h k z) := (amWp_dec rfl dJ11_copyOf_18 rfl).trans rfl
theorem wJ11_copyOf_19 {ret F n h k z} {v0 v1 v2 st} : eJ11_copyOf ret F (n + 1) 19 [v0, v1, v2] (st) h k z = (eJ11_copyOf ret F n 20 [v0, v1, v2] (.int (nI 0) :: st) h k z) := (amWp_dec rfl dJ11_copyOf_19 rfl).trans rfl
theorem wJ11_copyOf_20 {ret F n h k z} {v0 v1 v2 st} : eJ11_copyOf ret F (n + 1) 20 [v0, v1, v2] (st) h k z = (amIsR v2 ∧ eJ11_copyOf ret F n 21 [v0, v1, v2] (v2 :: st) h k z) := (amWp_dec rfl dJ11_copyOf_20 rfl).trans rfl
theorem wJ11_copyOf_21 {ret F n h k z} {v0 v1 v2 st} : eJ11_copyOf ret F (n + 1) 21 [v0, v1, v2] (st) h k z = (eJ11_copyOf ret F n 22 [v0, v1, v2] (.int (nI 0) :: st) h k z) := (amWp_dec rfl dJ11_copyOf_21 rfl).trans rfl
theorem wJ11_copyOf_22 {ret F n h k z} {v0 v1 v2 st} : eJ11_copyOf ret F (n + 1) 22 [v0, v1, v2] (st) h k z = (amIsR v0 ∧ eJ11_copyOf ret F n 23 [v0, v1, v2] (v0 :: st) h k z) := (amWp_dec rfl dJ11_copyOf_22 rfl).trans rfl
theorem wJ11_copyOf_23 {ret F n h k z} {v0 v1 v2 st a} : eJ11_copyOf ret F (n + 1) 23 [v0, v1, v2] (.ref a :: st) h k z = (1 ≤ (h.1 a).1 ∧ (h.1 a).1 ≤ 8 ∧ eJ11_copyOf ret F n 24 [v0, v1, v2] (.int (nI (h.1 a).2) :: st) h k z) := (amWp_dec rfl dJ11_copyOf_23 rfl).trans rfl
theorem wJ11_copyOf_24 {ret F n h k z} {v0 v2 st x} : eJ11_copyOf ret F (n + 1) 24 [v0, .int x, v2] (st) h k z = (eJ11_copyOf ret F n 25 [v0, .int x, v2] (.int x :: st) h k z) := (amWp_dec rfl dJ11_copyOf_24 rfl).trans rfl
theorem wJ11_copyOf_25 {ret F n h k z} {v0 v1 v2 x1 x0 r0 r1 r2 r3} : eJ11_copyOf ret F (n + 1) 25 [v0, v1, v2] (.int x1 :: .int x0 :: r0 :: r1 :: r2 :: r3 :: []) h k z = (k + 0 ≤ 1 ∧ z + 0 ≤ 302 ∧ amTmin [.int x0, .int x1] h (fun v h => eJ11_copyOf ret F n 28 [v0, v1, v2] (v.toList ++ (r0 :: r1 :: r2 :: r3 :: [])) h (k + 0) (z + 0))) := (amWp_dec rfl dJ11_copyOf_25 rfl).trans (amS2 (Nat.le_of_ble_eq_true rfl) (Nat.le_of_ble_eq_true rfl))
theorem wJ11_copyOf_28 {ret F n h k z} {v0 v1 v2 x4 x3 x2 x1 x0} : eJ11_copyOf ret F (n + 1) 28 [v0, v1, v2] (.int x4 :: .int x3 :: .ref x2 :: .int x1 :: .ref x0 :: []) h k z = (k + 0 ≤ 1 ∧ z + 0 ≤ 302 ∧ amTcpI [.ref x0, .int x1, .ref x2, .int x3, .int x4] h (fun v h => eJ11_copyOf ret F n 31 [v0, v1, v2] (v.toList ++ ([])) h (k + 0) (z + 0))) := (amWp_dec rfl dJ11_copyOf_28 rfl).trans (amS2 (Nat.le_of_ble_eq_true rfl) (Nat.le_of_ble_eq_true rfl))
theorem wJ11_copyOf_31 {ret F n h k z} {v0 v1 v2 st} : eJ11_copyOf ret F (n + 1) 31 [v0, v1, v2] (st) h k z = (amIsR v2 ∧ eJ11_copyOf ret F n 32 [v0, v1, v2] (v2 :: st) h k z) := (amWp_dec rfl dJ11_copyOf_31 rfl).trans rfl
theorem wJ11_copyOf_32 {ret F n h k z} {v0 v1 v2 w} : eJ11_copyOf ret F (n + 1) 32 [v0, v1, v2] ([w]) h k z = (amIsR w ∧ ret (some w) h k z) := (amWp_dec rfl dJ11_copyOf_32 rfl).trans (amTrue ⟨_, rfl, rfl⟩)
theorem evJ11_copyOf (l : Launch) (G : amG) : ∀ pc S i sz, amLk rJ11_copyOf pc = some S → decode cJ11_copyOf pc = .ok (i, sz) → amSiteP pc G l yJ11_copyOf.cls yJ11_copyOf.name yJ11_copyOf.desc (amRm 1 1 302) i sz S.1 S.2.1 S.2.2.1 S.2.2.2 := amLk_ok (by
  refine List.forall_mem_cons.mpr ⟨⟨_, _, dJ11_copyOf_25, amSite.P (amSiteMin rfl (by decide) q676)⟩, ?_⟩
  refine List.forall_mem_cons.mpr ⟨⟨_, _, dJ11_copyOf_28, amSite.P (amSiteCpI rfl (by decide) q679 q473 q472 q95)⟩, ?_⟩
  exact fun _ h => absurd h List.not_mem_nil)
theorem goJ11_copyOf {ret F} (hF : amCld cJ11_copyOf kJ11_copyOf (amLk rJ11_copyOf) (some (FieldType.array FieldType.byte)) 1 302 ret F) (n : Nat) {pc ls st h k z} (q : sJ11_copyOf ret F n pc ls st h k z) : F pc ls st h k z := hF.1 n pc ls st h k z q
theorem metJ11_copyOf (l : Launch) (G : amG) : amMet l G yJ11_copyOf (ws_ yJ11_copyOf cJ11_copyOf 3 (some (FieldType.array FieldType.byte))) 1 1 302 tJ11_copyOf := by
  refine amMet_of (cut := kJ11_copyOf) (by decide +kernel) (evJ11_copyOf l G) ?_
  intro as h K hT
  match as, hT with
  | [.ref a, .int q0], ⟨n, q, h1, e, nq, q3, an, n24, hK⟩ =>
  refine ⟨Nat.le_of_ble_eq_true rfl, fun F hF => ?_⟩
  show F 0 [.ref a, .int q0, .retAddr 0] [] h 0 0
  obtain ⟨a, rfl⟩ : ∃ i : Nat, i = a := ⟨_, rfl⟩
  subst e
  have i1 : (nI q = nI n) = False := eq_false (fun z => by
    have := (nI_eq (by omega) (by omega)).mp z
    omega)
  have i2 : (q ≤ 302) = True := eq_true q3
  have i3 : (q ≤ 67108864) = True := eq_true (by omega)
  have mn : (if q < n then nI q else nI n) = nI n := if_neg (by omega)
  have n24' : (amN0 ≤ h.2.2.2.2) = True := eq_true n24
  have sa : (amNew h (2, q)).1 a = (2, n) := by rw [amNew_1 an]; exact h1
  have sn : (amNew h (2, q)).1 h.2.2.2.2 = (2, q) := amNew_sh h _
  have c1 : (n ≤ q) = True := eq_true (by omega)
  have p2 : (1 ≤ 2) = True := eq_true (by decide)
  have p4 : (2 ≤ 4) = True := eq_true (by decide)
  refine goJ11_copyOf hF 60 ?_
  simp (disch := omega) only [wJ11_copyOf_0, uJ11_copyOf_0, wJ11_copyOf_1, wJ11_copyOf_2, wJ11_copyOf_3, wJ11_copyOf_14, wJ11_copyOf_15, wJ11_copyOf_17, wJ11_copyOf_18, wJ11_copyOf_19, wJ11_copyOf_20, wJ11_copyOf_21, wJ11_copyOf_22, wJ11_copyOf_23, wJ11_copyOf_24, wJ11_copyOf_25, wJ11_copyOf_28, wJ11_copyOf_31, wJ11_copyOf_32, amSI_1, amSI_2, amSI_3, amSI_s, amU_at, amIsR_ref, amIsR_null, amIsR_rf, amRf_some, amRf_none, amClr_int, amClr_ref, amClr_null, amClr_long, amClr_ra, amClr_rf, amFit_int, amFit_oref, amFit_aref, amFit_onull, amFit_anull, amOptSome, amOptNone, List.cons_append, List.nil_append, true_and, and_true, true_implies, not_true_eq_false, not_false_eq_true, false_implies, and_self, Nat.add_zero, Nat.zero_add, ne_eq, Prod.mk.injEq, amC01_0, amC01_1, amC01_nb, amNb0, amNb1, amTcpI_d, Nat.reduceLeDiff, Nat.reduceAdd, Nat.reduceSub, Nat.reduceEqDiff, Nat.le_refl, amN0le, h1, amLeI, amLtI, amEqI, amLe0, amGt0, amEq0, amNotPosI, amGe0, amVI, amCl_nI, amAdd, amSub, amMul, i1, i2, i3, mn, sa, sn, n24', amTmin_d, amTcpI_d, c1]
  refine amRet.of (by decide) (by omega) (hK _ rfl (fun i hi => ?_) sn (fun j hj => ?_))
  · refine (amNew_same hi).tr ⟨rfl, ?_, rfl, rfl⟩
    exact if_neg (by omega)
  · show va_up (amNew h (2, q)).2.1 h.2.2.2.2 (va_cpy ((amNew h (2, q)).2.1 a) ((amNew h (2, q)).2.1 h.2.2.2.2) 0 0 n) h.2.2.2.2 j = _
    rw [up_at]
    unfold va_cpy
    rw [if_pos (by omega)]
    have := (amNew_same (s := (2, q)) an).2.1
    rw [this, Nat.sub_zero, Nat.zero_add]
theorem tJ11_copyOf_d {a : Nat} {q0 : Int32} {h : amH} {K : Option Value → amH → Prop} : tJ11_copyOf [.ref a, .int q0] h K = ∃ n q : Nat, h.1 a = (2, n) ∧ q0 = nI q ∧ n < q ∧ q ≤ 302 ∧ a < h.2.2.2.2 ∧ 24 ≤ h.2.2.2.2 ∧ ∀ h', h'.2.2.2.2 = h.2.2.2.2 + 1 → (∀ i, i < h.2.2.2.2 → amSame h h' i) → h'.1 h.2.2.2.2 = (2, q) → (∀ j, j < n → h'.2.1 h.2.2.2.2 j = h.2.1 a j) → K (some (.ref h.2.2.2.2)) h' := rfl
def tJ4_ensureCapacityInternal : amT := fun as h K => match as with
  | [.ref b, .int x] => ∃ (n0 v cap m : Nat) (t : List Nat), 24 ≤ n0 ∧ n0 ≤ b ∧ n0 ≤ v ∧ b < h.2.2.2.2 ∧ v < h.2.2.2.2 ∧ SbV h b v cap t ∧ x = nI m ∧ t.length ≤ m ∧ m ≤ 150 ∧ ∀ h' v' cap', h.2.2.2.2 ≤ h'.2.2.2.2 → (∀ i, i < h.2.2.2.2 → i ≠ b → amSame h h' i) → n0 ≤ v' → v' < h'.2.2.2.2 → SbV h' b v' cap' t → m ≤ cap' → K none h'
  | _ => False
/-! java/lang/AbstractStringBuilder.ensureCapacityInternal(I)V -/
def kJ4_ensureCapacityInternal : Nat → Bool := fun pc => pc == 35
def rJ4_ensureCapacityInternal : List (Nat × amS) := [(1, 1, 0, 0, amTget 8 0), (6, 1, 0, 0, amTget 8 1), (19, 1, 0, 0, amTget 8 0), (24, 2, 0, 0, (amRecv 8 tJ4_newCapacity)), (28, 1, 0, 0, amTget 8 1), (32, 2, 1, 302, tJ11_copyOf), (35, 2, 0, 0, amTput 8 0)]
def eJ4_ensureCapacityInternal (ret : Option Value → amH → Nat → Nat → Prop) (F : amX) : Nat → amX := amWp cJ4_ensureCapacityInternal kJ4_ensureCapacityInternal (amLk rJ4_ensureCapacityInternal) none 1 302 ret F
def sJ4_ensureCapacityInternal (ret : Option Value → amH → Nat → Nat → Prop) (F : amX) : Nat → amX := amWs cJ4_ensureCapacityInternal kJ4_ensureCapacityInternal (amLk rJ4_ensureCapacityInternal) none 1 302 ret F
theorem wJ4_ensureCapacityInternal_0 {ret F n h k z} {v0 v1 v2 st} : eJ4_ensureCapacityInternal ret F (n + 1) 0 [v0, v1, v2] (st) h k z = (amIsR v0 ∧ eJ4_ensureCapacityInternal ret F n 1 [v0, v1, v2] (v0 :: st) h k z) := (amWp_dec rfl dJ4_ensureCapacityInternal_0 rfl).trans rfl
theorem uJ4_ensureCapacityInternal_0 {ret F n h k z} {v0 v1 v2 st} : sJ4_ensureCapacityInternal ret F n 0 [v0, v1, v2] (st) h k z = (amIsR v0 ∧ eJ4_ensureCapacityInternal ret F n 1 [v0, v1, v2] (v0 :: st) h k z) := (amWs_dec dJ4_ensureCapacityInternal_0 rfl).trans rfl
theorem wJ4_ensureCapacityInternal_1 {ret F n h k z} {v0 v1 v2 a} : eJ4_ensureCapacityInternal ret F (n + 1) 1 [v0, v1, v2] (.ref a :: []) h k z = (k + 0 ≤ 1 ∧ z + 0 ≤ 302 ∧ h.1 a = (0, 8) ∧ eJ4_ensureCapacityInternal ret F n 4 [v0, v1, v2] (va_rf (h.2.2.2.1 a 0) :: []) h (k + 0) (z + 0)) := (amWp_dec rfl dJ4_ensureCapacityInternal_1 rfl).trans (amS2 (Nat.le_of_ble_eq_true rfl) (Nat.le_of_ble_eq_true rfl))
theorem wJ4_ensureCapacityInternal_4 {ret F n h k z} {v0 v1 v2 st a} : eJ4_ensureCapacityInternal ret F (n + 1) 4 [v0, v1, v2] (.ref a :: st) h k z = (1 ≤ (h.1 a).1 ∧ (h.1 a).1 ≤ 8 ∧ eJ4_ensureCapacityInternal ret F n 5 [v0, v1, v2] (.int (nI (h.1 a).2) :: st) h k z) := (amWp_dec rfl dJ4_ensureCapacityInternal_4 rfl).trans rfl
theorem wJ4_ensureCapacityInternal_5 {ret F n h k z} {v0 v1 v2 st} : eJ4_ensureCapacityInternal ret F (n + 1) 5 [v0, v1, v2] (st) h k z = (amIsR v0 ∧ eJ4_ensureCapacityInternal ret F n 6 [v0, v1, v2] (v0 :: st) h k z) := (amWp_dec rfl dJ4_ensureCapacityInternal_5 rfl).trans rfl
theorem wJ4_ensureCapacityInternal_6 {ret F n h k z} {v0 v1 v2 r0 a} : eJ4_ensureCapacityInternal ret F (n + 1) 6 [v0, v1, v2] (.ref a :: r0 :: []) h k z = (k + 0 ≤ 1 ∧ z + 0 ≤ 302 ∧ h.1 a = (0, 8) ∧ eJ4_ensureCapacityInternal ret F n 9 [v0, v1, v2] (.int (h.2.1 a 1) :: r0 :: []) h (k + 0) (z + 0)) := (amWp_dec rfl dJ4_ensureCapacityInternal_6 rfl).trans (amS2 (Nat.le_of_ble_eq_true rfl) (Nat.le_of_ble_eq_true rfl))
theorem wJ4_ensureCapacityInternal_9 {ret F n h k z} {v0 v1 v2 st y x} : eJ4_ensureCapacityInternal ret F (n + 1) 9 [v0, v1, v2] (.int y :: .int x :: st) h k z = (eJ4_ensureCapacityInternal ret F n 10 [v0, v1, v2] (.int (x >>> (y &&& 31)) :: st) h k z) := (amWp_dec rfl dJ4_ensureCapacityInternal_9 rfl).trans rfl
theorem wJ4_ensureCapacityInternal_10 {ret F n h k z} {v0 v1 v2 st x} : eJ4_ensureCapacityInternal ret F (n + 1) 10 [v0, v1, v2] (.int x :: st) h k z = (eJ4_ensureCapacityInternal ret F n 11 [v0, amClr v1, .int x] (st) h k z) := (amWp_dec rfl dJ4_ensureCapacityInternal_10 rfl).trans (amTrue (Nat.le_of_ble_eq_true rfl))
theorem wJ4_ensureCapacityInternal_11 {ret F n h k z} {v0 v2 st x} : eJ4_ensureCapacityInternal ret F (n + 1) 11 [v0, .int x, v2] (st) h k z = (eJ4_ensureCapacityInternal ret F n 12 [v0, .int x, v2] (.int x :: st) h k z) := (amWp_dec rfl dJ4_ensureCapacityInternal_11 rfl).trans rfl
theorem wJ4_ensureCapacityInternal_12 {ret F n h k z} {v0 v1 st x} : eJ4_ensureCapacityInternal ret F (n + 1) 12 [v0, v1, .int x] (st) h k z = (eJ4_ensureCapacityInternal ret F n 13 [v0, v1, .int x] (.int x :: st) h k z) := (amWp_dec rfl dJ4_ensureCapacityInternal_12 rfl).trans rfl
theorem wJ4_ensureCapacityInternal_13 {ret F n h k z} {v0 v1 v2 st y x} : eJ4_ensureCapacityInternal ret F (n + 1) 13 [v0, v1, v2] (.int y :: .int x :: st) h k z = (eJ4_ensureCapacityInternal ret F n 14 [v0, v1, v2] (.int (x - y) :: st) h k z) := (amWp_dec rfl dJ4_ensureCapacityInternal_13 rfl).trans rfl
theorem wJ4_ensureCapacityInternal_14 {ret F n h k z} {v0 v1 v2 st x} : eJ4_ensureCapacityInternal ret F (n + 1) 14 [v0, v1, v2] (.int x :: st) h k z = ((x ≤ 0 → eJ4_ensureCapacityInternal ret F n 38 [v0, v1, v2] (st) h k z) ∧ (¬ x ≤ 0 → eJ4_ensureCapacityInternal ret F n 17 [v0, v1, v2] (st) h k z)) := (amWp_dec rfl dJ4_ensureCapacityInternal_14 rfl).trans rfl
theorem wJ4_ensureCapacityInternal_17 {ret F n h k z} {v0 v1 v2 st} : eJ4_ensureCapacityInternal ret F (n + 1) 17 [v0, v1, v2] (st) h k z = (amIsR v0 ∧ eJ4_ensureCapacityInternal ret F n 18 [v0, v1, v2] (v0 :: st) h k z) := (amWp_dec rfl dJ4_ensureCapacityInternal_17 rfl).trans rfl
theorem wJ4_ensureCapacityInternal_18 {ret F n h k z} {v0 v1 v2 st} : eJ4_ensureCapacityInternal ret F (n + 1) 18 [v0, v1, v2] (st) h k z = (amIsR v0 ∧ eJ4_ensureCapacityInternal ret F n 19 [v0, v1, v2] (v0 :: st) h k z) := (amWp_dec rfl dJ4_ensureCapacityInternal_18 rfl).trans rfl
theorem wJ4_ensureCapacityInternal_19 {ret F n h k z} {v0 v1 v2 r0 a} : eJ4_ensureCapacityInternal ret F (n + 1) 19 [v0, v1, v2] (.ref a :: r0 :: []) h k z = (k + 0 ≤ 1 ∧ z + 0 ≤ 302 ∧ h.1 a = (0, 8) ∧ eJ4_ensureCapacityInternal ret F n 22 [v0, v1, v2] (va_rf (h.2.2.2.1 a 0) :: r0 :: []) h (k + 0) (z + 0)) := (amWp_dec rfl dJ4_ensureCapacityInternal_19 rfl).trans (amS2 (Nat.le_of_ble_eq_true rfl) (Nat.le_of_ble_eq_true rfl))
theorem wJ4_ensureCapacityInternal_22 {ret F n h k z} {v0 v1 v2 st} : eJ4_ensureCapacityInternal ret F (n + 1) 22 [v0, v1, v2] (st) h k z = (amIsR v0 ∧ eJ4_ensureCapacityInternal ret F n 23 [v0, v1, v2] (v0 :: st) h k z) := (amWp_dec rfl dJ4_ensureCapacityInternal_22 rfl).trans rfl
theorem wJ4_ensureCapacityInternal_23 {ret F n h k z} {v0 v2 st x} : eJ4_ensureCapacityInternal ret F (n + 1) 23 [v0, .int x, v2] (st) h k z = (eJ4_ensureCapacityInternal ret F n 24 [v0, .int x, v2] (.int x :: st) h k z) := (amWp_dec rfl dJ4_ensureCapacityInternal_23 rfl).trans rfl
theorem wJ4_ensureCapacityInternal_24 {ret F n h k z} {v0 v1 v2 x1 x0 r0 r1} : eJ4_ensureCapacityInternal ret F (n + 1) 24 [v0, v1, v2] (.int x1 :: .ref x0 :: r0 :: r1 :: []) h k z = (k + 0 ≤ 1 ∧ z + 0 ≤ 302 ∧ h.1 x0 = (0, 8) ∧ tJ4_newCapacity [.ref x0, .int x1] h (fun v h => eJ4_ensureCapacityInternal ret F n 27 [v0, v1, v2] (v.toList ++ (r0 :: r1 :: [])) h (k + 0) (z + 0))) := (amWp_dec rfl dJ4_ensureCapacityInternal_24 rfl).trans (amS2 (Nat.le_of_ble_eq_true rfl) (Nat.le_of_ble_eq_true rfl))
theorem wJ4_ensureCapacityInternal_27 {ret F n h k z} {v0 v1 v2 st} : eJ4_ensureCapacityInternal ret F (n + 1) 27 [v0, v1, v2] (st) h k z = (amIsR v0 ∧ eJ4_ensureCapacityInternal ret F n 28 [v0, v1, v2] (v0 :: st) h k z) := (amWp_dec rfl dJ4_ensureCapacityInternal_27 rfl).trans rfl
theorem wJ4_ensureCapacityInternal_28 {ret F n h k z} {v0 v1 v2 r0 r1 r2 a} : eJ4_ensureCapacityInternal ret F (n + 1) 28 [v0, v1, v2] (.ref a :: r0 :: r1 :: r2 :: []) h k z = (k + 0 ≤ 1 ∧ z + 0 ≤ 302 ∧ h.1 a = (0, 8) ∧ eJ4_ensureCapacityInternal ret F n 31 [v0, v1, v2] (.int (h.2.1 a 1) :: r0 :: r1 :: r2 :: []) h (k + 0) (z + 0)) := (amWp_dec rfl dJ4_ensureCapacityInternal_28 rfl).trans (amS2 (Nat.le_of_ble_eq_true rfl) (Nat.le_of_ble_eq_true rfl))
theorem wJ4_ensureCapacityInternal_31 {ret F n h k z} {v0 v1 v2 st y x} : eJ4_ensureCapacityInternal ret F (n + 1) 31 [v0, v1, v2] (.int y :: .int x :: st) h k z = (eJ4_ensureCapacityInternal ret F n 32 [v0, v1, v2] (.int (x <<< (y &&& 31)) :: st) h k z) := (amWp_dec rfl dJ4_ensureCapacityInternal_31 rfl).trans rfl
theorem wJ4_ensureCapacityInternal_32 {ret F n h k z} {v0 v1 v2 x1 x0 r0} : eJ4_ensureCapacityInternal ret F (n + 1) 32 [v0, v1, v2] (.int x1 :: .ref x0 :: r0 :: []) h k z = (k + 1 ≤ 1 ∧ z + 302 ≤ 302 ∧ tJ11_copyOf [.ref x0, .int x1] h (fun v h => eJ4_ensureCapacityInternal ret F n 35 [v0, v1, v2] (v.toList ++ (r0 :: [])) h (k + 1) (z + 302))) := (amWp_dec rfl dJ4_ensureCapacityInternal_32 rfl).trans (amS2 (Nat.le_of_ble_eq_true rfl) (Nat.le_of_ble_eq_true rfl))
theorem wJ4_ensureCapacityInternal_35 {ret F n ls st h k z} : eJ4_ensureCapacityInternal ret F (n + 1) 35 ls st h k z = F 35 ls st h k z := amWp_cut rfl
theorem uJ4_ensureCapacityInternal_35 {ret F n h k z} {v0 v1 v2 w a} : sJ4_ensureCapacityInternal ret F n 35 [v0, v1, v2] (w :: .ref a :: []) h k z = (k + 0 ≤ 1 ∧ z + 0 ≤ 302 ∧ h.1 a = (0, 8) ∧ amN0 ≤ a ∧ amFit (.array .byte) w ∧ eJ4_ensureCapacityInternal ret F n 38 [v0, v1, v2] ([]) (amWr h a 0 w) (k + 0) (z + 0)) := (amWs_dec dJ4_ensureCapacityInternal_35 rfl).trans (amS2 (Nat.le_of_ble_eq_true rfl) (Nat.le_of_ble_eq_true rfl))
theorem wJ4_ensureCapacityInternal_38 {ret F n h k z} {v0 v1 v2} : eJ4_ensureCapacityInternal ret F (n + 1) 38 [v0, v1, v2] ([]) h k z = (ret none h k z) := (amWp_dec rfl dJ4_ensureCapacityInternal_38 rfl).trans (amTrue rfl)
theorem evJ4_ensureCapacityInternal (l : Launch) (G : amG) : ∀ pc S i sz, amLk rJ4_ensureCapacityInternal pc = some S → decode cJ4_ensureCapacityInternal pc = .ok (i, sz) → amSiteP pc G l yJ4_ensureCapacityInternal.cls yJ4_ensureCapacityInternal.name yJ4_ensureCapacityInternal.desc (amRm 3 1 302) i sz S.1 S.2.1 S.2.2.1 S.2.2.2 := amLk_ok (by
  refine List.forall_mem_cons.mpr ⟨⟨_, _, dJ4_ensureCapacityInternal_1, amSite.P (amSiteGet ⟨_, rfl, by decide, Or.inl q623⟩)⟩, ?_⟩
  refine List.forall_mem_cons.mpr ⟨⟨_, _, dJ4_ensureCapacityInternal_6, amSite.P (amSiteGet ⟨_, rfl, by decide, Or.inl q624⟩)⟩, ?_⟩
  refine List.forall_mem_cons.mpr ⟨⟨_, _, dJ4_ensureCapacityInternal_19, amSite.P (amSiteGet ⟨_, rfl, by decide, Or.inl q623⟩)⟩, ?_⟩
  refine List.forall_mem_cons.mpr ⟨⟨_, _, dJ4_ensureCapacityInternal_24, amSite.P (amSiteU (C := RJ5) (metJ4_newCapacity l G) rfl (by decide) (by decide) q653 q1722 (Or.inr (List.mem_of_getElem? (i := 41) rfl)) q655 q100 q656 ⟨_, rfl, rfl⟩ ⟨by decide +kernel, by decide +kernel, by decide +kernel⟩)⟩, ?_⟩
  refine List.forall_mem_cons.mpr ⟨⟨_, _, dJ4_ensureCapacityInternal_28, amSite.P (amSiteGet ⟨_, rfl, by decide, Or.inl q624⟩)⟩, ?_⟩
  refine List.forall_mem_cons.mpr ⟨⟨_, _, dJ4_ensureCapacityInternal_32, amSite.P (amSiteS (metJ11_copyOf l G) rfl (by decide) (by decide) (lw_S q666 q667 q107 q668) ⟨by decide +kernel, by decide +kernel, by decide +kernel⟩)⟩, ?_⟩
  refine List.forall_mem_cons.mpr ⟨⟨_, _, dJ4_ensureCapacityInternal_35, amSite.P (amSitePut ⟨_, rfl, by decide, Or.inl q623⟩ (fun q h => by cases h; rfl))⟩, ?_⟩
  exact fun _ h => absurd h List.not_mem_nil)
theorem goJ4_ensureCapacityInternal {ret F} (hF : amCld cJ4_ensureCapacityInternal kJ4_ensureCapacityInternal (amLk rJ4_ensureCapacityInternal) none 1 302 ret F) (n : Nat) {pc ls st h k z} (q : sJ4_ensureCapacityInternal ret F n pc ls st h k z) : F pc ls st h k z := hF.1 n pc ls st h k z q
theorem metJ4_ensureCapacityInternal (l : Launch) (G : amG) : amMet l G yJ4_ensureCapacityInternal (ws_ yJ4_ensureCapacityInternal cJ4_ensureCapacityInternal 3 none) 3 1 302 tJ4_ensureCapacityInternal := by
  refine amMet_of (cut := kJ4_ensureCapacityInternal) (by decide +kernel) (evJ4_ensureCapacityInternal l G) ?_
  intro as h K hT
  match as, hT with
  | [.ref b, .int x], ⟨n0, v, cap, m, t, n24, nb, nv, bn, vn, hV, e, tm, m1, hK⟩ =>
  refine ⟨Nat.le_of_ble_eq_true rfl, fun F hF => ?_⟩
  show F 0 [.ref b, .int x, .retAddr 0] [] h 0 0
  obtain ⟨b, rfl⟩ : ∃ i : Nat, i = b := ⟨_, rfl⟩
  subst e
  have hV0 := hV
  obtain ⟨h1, h2, h3, h4, h5, h6, h7, h8, h9⟩ := hV0
  have vb := hV.ne
  by_cases c : m ≤ cap
  · have c' : (nI m - nI cap ≤ 0) = True := eq_true (by rw [subLe0 (by omega) (by omega)]; exact c)
    refine goJ4_ensureCapacityInternal hF 60 ?_
    simp (disch := omega) only [wJ4_ensureCapacityInternal_0, uJ4_ensureCapacityInternal_0, wJ4_ensureCapacityInternal_1, wJ4_ensureCapacityInternal_4, wJ4_ensureCapacityInternal_5, wJ4_ensureCapacityInternal_6, wJ4_ensureCapacityInternal_9, wJ4_ensureCapacityInternal_10, wJ4_ensureCapacityInternal_11, wJ4_ensureCapacityInternal_12, wJ4_ensureCapacityInternal_13, wJ4_ensureCapacityInternal_14, wJ4_ensureCapacityInternal_17, wJ4_ensureCapacityInternal_18, wJ4_ensureCapacityInternal_19, wJ4_ensureCapacityInternal_22, wJ4_ensureCapacityInternal_23, wJ4_ensureCapacityInternal_24, wJ4_ensureCapacityInternal_27, wJ4_ensureCapacityInternal_28, wJ4_ensureCapacityInternal_31, wJ4_ensureCapacityInternal_32, wJ4_ensureCapacityInternal_35, uJ4_ensureCapacityInternal_35, wJ4_ensureCapacityInternal_38, amSI_1, amSI_2, amSI_3, amSI_s, amU_at, amIsR_ref, amIsR_null, amIsR_rf, amRf_some, amRf_none, amClr_int, amClr_ref, amClr_null, amClr_long, amClr_ra, amClr_rf, amFit_int, amFit_oref, amFit_aref, amFit_onull, amFit_anull, amOptSome, amOptNone, List.cons_append, List.nil_append, true_and, and_true, true_implies, not_true_eq_false, not_false_eq_true, false_implies, and_self, Nat.add_zero, Nat.zero_add, ne_eq, Prod.mk.injEq, amC01_0, amC01_1, amC01_nb, amNb0, amNb1, amTcpI_d, Nat.reduceLeDiff, Nat.reduceAdd, Nat.reduceSub, Nat.reduceEqDiff, Nat.le_refl, amN0le, h1, h2, h3, h5, amShr0, c']
    exact amRet.of (by decide) (by decide) (hK h v cap (Nat.le_refl _) (fun i _ _ => amSame.rf h i) nv vn hV c)
  · have c' : (nI m - nI cap ≤ 0) = False := eq_false (by rw [subLe0 (by omega) (by omega)]; exact c)
    refine goJ4_ensureCapacityInternal hF 60 ?_
    simp (disch := omega) only [wJ4_ensureCapacityInternal_0, uJ4_ensureCapacityInternal_0, wJ4_ensureCapacityInternal_1, wJ4_ensureCapacityInternal_4, wJ4_ensureCapacityInternal_5, wJ4_ensureCapacityInternal_6, wJ4_ensureCapacityInternal_9, wJ4_ensureCapacityInternal_10, wJ4_ensureCapacityInternal_11, wJ4_ensureCapacityInternal_12, wJ4_ensureCapacityInternal_13, wJ4_ensureCapacityInternal_14, wJ4_ensureCapacityInternal_17, wJ4_ensureCapacityInternal_18, wJ4_ensureCapacityInternal_19, wJ4_ensureCapacityInternal_22, wJ4_ensureCapacityInternal_23, wJ4_ensureCapacityInternal_24, wJ4_ensureCapacityInternal_27, wJ4_ensureCapacityInternal_28, wJ4_ensureCapacityInternal_31, wJ4_ensureCapacityInternal_32, wJ4_ensureCapacityInternal_35, uJ4_ensureCapacityInternal_35, wJ4_ensureCapacityInternal_38, amSI_1, amSI_2, amSI_3, amSI_s, amU_at, amIsR_ref, amIsR_null, amIsR_rf, amRf_some, amRf_none, amClr_int, amClr_ref, amClr_null, amClr_long, amClr_ra, amClr_rf, amFit_int, amFit_oref, amFit_aref, amFit_onull, amFit_anull, amOptSome, amOptNone, List.cons_append, List.nil_append, true_and, and_true, true_implies, not_true_eq_false, not_false_eq_true, false_implies, and_self, Nat.add_zero, Nat.zero_add, ne_eq, Prod.mk.injEq, amC01_0, amC01_1, amC01_nb, amNb0, amNb1, amTcpI_d, Nat.reduceLeDiff, Nat.reduceAdd, Nat.reduceSub, Nat.reduceEqDiff, Nat.le_refl, amN0le, h1, h2, h3, h5, amShr0, c']
    rw [tJ4_newCapacity_d]
    refine ⟨v, cap, m, h1, h2, h3, h5, rfl, by omega, by omega, ?_⟩
    simp (disch := omega) only [wJ4_ensureCapacityInternal_0, uJ4_ensureCapacityInternal_0, wJ4_ensureCapacityInternal_1, wJ4_ensureCapacityInternal_4, wJ4_ensureCapacityInternal_5, wJ4_ensureCapacityInternal_6, wJ4_ensureCapacityInternal_9, wJ4_ensureCapacityInternal_10, wJ4_ensureCapacityInternal_11, wJ4_ensureCapacityInternal_12, wJ4_ensureCapacityInternal_13, wJ4_ensureCapacityInternal_14, wJ4_ensureCapacityInternal_17, wJ4_ensureCapacityInternal_18, wJ4_ensureCapacityInternal_19, wJ4_ensureCapacityInternal_22, wJ4_ensureCapacityInternal_23, wJ4_ensureCapacityInternal_24, wJ4_ensureCapacityInternal_27, wJ4_ensureCapacityInternal_28, wJ4_ensureCapacityInternal_31, wJ4_ensureCapacityInternal_32, wJ4_ensureCapacityInternal_35, uJ4_ensureCapacityInternal_35, wJ4_ensureCapacityInternal_38, amSI_1, amSI_2, amSI_3, amSI_s, amU_at, amIsR_ref, amIsR_null, amIsR_rf, amRf_some, amRf_none, amClr_int, amClr_ref, amClr_null, amClr_long, amClr_ra, amClr_rf, amFit_int, amFit_oref, amFit_aref, amFit_onull, amFit_anull, amOptSome, amOptNone, List.cons_append, List.nil_append, true_and, and_true, true_implies, not_true_eq_false, not_false_eq_true, false_implies, and_self, Nat.add_zero, Nat.zero_add, ne_eq, Prod.mk.injEq, amC01_0, amC01_1, amC01_nb, amNb0, amNb1, amTcpI_d, Nat.reduceLeDiff, Nat.reduceAdd, Nat.reduceSub, Nat.reduceEqDiff, Nat.le_refl, amN0le, h1, h2, h3, h5, amShl0]
    rw [tJ11_copyOf_d]
    refine ⟨cap, cap + max (m - cap) (cap + 2), h5, rfl, by omega, by omega, vn, by omega, fun h' a1 a2 a3 a4 => ?_⟩
    have b1 : h'.1 b = (0, 8) := by rw [(a2 b bn).1]; exact h1
    have b24 : (amN0 ≤ b) = True := eq_true (show 24 ≤ b by omega)
    have w1 : ∀ i, i ≠ b → amSame h' (amWr h' b 0 (.ref h.2.2.2.2)) i := fun i hi => amWr_same hi
    have key := hK (amWr h' b 0 (.ref h.2.2.2.2)) h.2.2.2.2 (cap + max (m - cap) (cap + 2)) (by show _ ≤ h'.2.2.2.2; omega) (fun i hi hib => (a2 i hi).tr (w1 i hib)) (by omega) (by show _ < h'.2.2.2.2; omega) ⟨b1, by simp [amWr, va_up], by show h'.2.1 b 1 = _; rw [(a2 b bn).2.1]; exact h3, by show h'.2.1 b 3 = _; rw [(a2 b bn).2.1]; exact h4, a3, by omega, by omega, fun i hi => by
      show h'.2.1 h.2.2.2.2 i = _
      rw [a4 i (by omega)]
      exact h8 i hi, h9⟩ (by omega)
    refine goJ4_ensureCapacityInternal hF 60 ?_
    simp (disch := omega) only [wJ4_ensureCapacityInternal_0, uJ4_ensureCapacityInternal_0, wJ4_ensureCapacityInternal_1, wJ4_ensureCapacityInternal_4, wJ4_ensureCapacityInternal_5, wJ4_ensureCapacityInternal_6, wJ4_ensureCapacityInternal_9, wJ4_ensureCapacityInternal_10, wJ4_ensureCapacityInternal_11, wJ4_ensureCapacityInternal_12, wJ4_ensureCapacityInternal_13, wJ4_ensureCapacityInternal_14, wJ4_ensureCapacityInternal_17, wJ4_ensureCapacityInternal_18, wJ4_ensureCapacityInternal_19, wJ4_ensureCapacityInternal_22, wJ4_ensureCapacityInternal_23, wJ4_ensureCapacityInternal_24, wJ4_ensureCapacityInternal_27, wJ4_ensureCapacityInternal_28, wJ4_ensureCapacityInternal_31, wJ4_ensureCapacityInternal_32, wJ4_ensureCapacityInternal_35, uJ4_ensureCapacityInternal_35, wJ4_ensureCapacityInternal_38, amSI_1, amSI_2, amSI_3, amSI_s, amU_at, amIsR_ref, amIsR_null, amIsR_rf, amRf_some, amRf_none, amClr_int, amClr_ref, amClr_null, amClr_long, amClr_ra, amClr_rf, amFit_int, amFit_oref, amFit_aref, amFit_onull, amFit_anull, amOptSome, amOptNone, List.cons_append, List.nil_append, true_and, and_true, true_implies, not_true_eq_false, not_false_eq_true, false_implies, and_self, Nat.add_zero, Nat.zero_add, ne_eq, Prod.mk.injEq, amC01_0, amC01_1, amC01_nb, amNb0, amNb1, amTcpI_d, Nat.reduceLeDiff, Nat.reduceAdd, Nat.reduceSub, Nat.reduceEqDiff, Nat.le_refl, amN0le, b1, b24]
    exact amRet.of (by decide) (by decide) key
theorem tJ4_ensureCapacityInternal_d {b : Nat} {x : Int32} {h : amH} {K : Option Value → amH → Prop} : tJ4_ensureCapacityInternal [.ref b, .int x] h K = ∃ (n0 v cap m : Nat) (t : List Nat), 24 ≤ n0 ∧ n0 ≤ b ∧ n0 ≤ v ∧ b < h.2.2.2.2 ∧ v < h.2.2.2.2 ∧ SbV h b v cap t ∧ x = nI m ∧ t.length ≤ m ∧ m ≤ 150 ∧ ∀ h' v' cap', h.2.2.2.2 ≤ h'.2.2.2.2 → (∀ i, i < h.2.2.2.2 → i ≠ b → amSame h h' i) → n0 ≤ v' → v' < h'.2.2.2.2 → SbV h' b v' cap' t → m ≤ cap' → K none h' := rfl
