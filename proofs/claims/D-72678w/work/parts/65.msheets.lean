/-! the reference's sheets -/
set_option maxRecDepth 100000
/-- ints and longs changed -/
def amIL (h : amH) (m : Nat → Nat → Int32) (L : Nat → Nat → Int64) : amH := (h.1, m, L, h.2.2.2.1, h.2.2.2.2)
def amUL (L : Nat → Nat → Int64) (a f : Nat) (x : Int64) : Nat → Nat → Int64 := va_up L a (va_up (L a) f x)
theorem amWrL {h : amH} {a f : Nat} {x : Int64} : amWr h a f (.long x) = amIL h h.2.1 (amUL h.2.2.1 a f x) := rfl
theorem amIL_1 {h m L} : (amIL h m L).1 = h.1 := rfl
theorem amIL_2 {h m L} : (amIL h m L).2.1 = m := rfl
theorem amIL_3 {h m L} : (amIL h m L).2.2.1 = L := rfl
theorem amIL_r {h m L} : (amIL h m L).2.2.2.1 = h.2.2.2.1 := rfl
theorem amIL_s {h m L m'} : amSI (amIL h m L) m' = amIL h m' L := rfl
theorem amIL_c {h m L m' L'} : amIL (amIL h m L) m' L' = amIL h m' L' := rfl
theorem amIL_i {h m m' L'} : amIL (amSI h m) m' L' = amIL h m' L' := rfl
theorem amSI_L {h : amH} {m : Nat → Nat → Int32} : (amSI h m).2.2.1 = h.2.2.1 := rfl
theorem amUL_at {L : Nat → Nat → Int64} {a f : Nat} {x : Int64} : amUL L a f x a f = x := by simp [amUL, va_up]
theorem amUL_ne {L : Nat → Nat → Int64} {a f b : Nat} {x : Int64} (h : b ≠ a) : amUL L a f x b = L b := by simp [amUL, va_up, h]
theorem amUL_nj {L : Nat → Nat → Int64} {a f j : Nat} {x : Int64} (h : j ≠ f) : amUL L a f x a j = L a j := by simp [amUL, va_up, h]
theorem ltSub {a b l : Nat} (ha : a < 2147483648) (hb : b < 2147483648) (hl : l < 1000) : (nI l - nI b < nI a) = (l < a + b) := by
  apply propext
  rw [Int32.lt_iff_toInt_lt, Int32.toInt_sub, nI_toInt (by omega), nI_toInt (by omega), nI_toInt (by omega), Int.bmod_eq_of_le (by omega) (by omega)]
  omega
theorem leSub {a b l : Nat} (ha : a < 2147483648) (hb : b < 2147483648) (hl : l < 1000) : (nI a ≤ nI l - nI b) = (a + b ≤ l) := by
  rw [← Int32.not_lt, ltSub ha hb hl]
  exact propext Nat.not_lt
/-- why not; 0: nothing -/
def lackR (o : Option (Nat × List Int64)) (lane i : Int32) (n : Nat) : Int32 := match o with
  | none => -11
  | some (k, vs) => if ¬ nI k = lane then -12 else if i < 0 then -13 else if vs.length < i.toNatClampNeg + n then -13 else 0
abbrev okS (s lane : Int32) : Prop := (lN 0 ≤ s.toInt64 ∧ s.toInt64 ≤ lN 3) ∧ (lN 0 ≤ lane.toInt64 ∧ lane.toInt64 ≤ lN 3)
def setS (sh : Nat → Option (Nat × List Int64)) (s : Nat) (o : Option (Nat × List Int64)) : Nat → Option (Nat × List Int64) := fun t => if t = s then o else sh t
def XS.setSh (X : XS) (s : Nat) (o : Option (Nat × List Int64)) : XS := (X.1, X.2.1, X.2.2.1, X.2.2.2.1, setS X.2.2.2.2 s o)
def cutL (k : Nat) (v : Int64) : Int64 := if k = 0 then v.toInt32.toInt8.toInt32.toInt64 else if k = 1 then v.toInt32.toInt16.toInt32.toInt64 else if k = 2 then v.toInt32.toInt64 else v
def tX6_found : amT := fun as h K => match as with
  | [.ref t, .int s0, .int lane, .int i, .int n0] => ∃ (sh : Nat → Option (Nat × List Int64)) (s n : Nat), t = (124 : Nat) ∧ mdAt h ∧ ShM h.2.1 h.2.2.1 sh ∧ s0 = nI s ∧ s < 4 ∧ n0 = nI n ∧ n ≤ 7 ∧ K (some (.int (lackR (sh s) lane i n))) h
  | _ => False
/-! ReadingStagesModel.found(IIII)I -/
def kX6_found : Nat → Bool := fun pc => false
def rX6_found : List (Nat × amS) := [(1, 1, 0, 0, amTget 6 8), (13, 1, 0, 0, amTget 6 8), (32, 1, 0, 0, amTget 6 9)]
def eX6_found (ret : Option Value → amH → Nat → Nat → Prop) (F : amX) : Nat → amX := amWp cX6_found kX6_found (amLk rX6_found) (some .int) 0 0 ret F
def sX6_found (ret : Option Value → amH → Nat → Nat → Prop) (F : amX) : Nat → amX := amWs cX6_found kX6_found (amLk rX6_found) (some .int) 0 0 ret F
theorem wX6_found_0 {ret F n h} {v0 v1 v2 v3 v4 st} : eX6_found ret F (n + 1) 0 [v0, v1, v2, v3, v4] (st) h 0 0 = (amIsR v0 ∧ eX6_found ret F n 1 [v0, v1, v2, v3, v4] (v0 :: st) h 0 0) := (amWp_dec rfl dX6_found_0 rfl).trans rfl
theorem uX6_found_0 {ret F n h} {v0 v1 v2 v3 v4 st} : sX6_found ret F n 0 [v0, v1, v2, v3, v4] (st) h 0 0 = (amIsR v0 ∧ eX6_found ret F n 1 [v0, v1, v2, v3, v4] (v0 :: st) h 0 0) := (amWs_dec dX6_found_0 rfl).trans rfl
theorem wX6_found_1 {ret F n h} {v0 v1 v2 v3 v4 a} : eX6_found ret F (n + 1) 1 [v0, v1, v2, v3, v4] (.ref a :: []) h 0 0 = (h.1 a = (0, 6) ∧ eX6_found ret F n 4 [v0, v1, v2, v3, v4] (va_rf (h.2.2.2.1 a 8) :: []) h 0 0) := (amWp_dec rfl dX6_found_1 rfl).trans (amS4 (Nat.le_of_ble_eq_true rfl) (Nat.le_of_ble_eq_true rfl) (Nat.le_of_ble_eq_true rfl) (Nat.le_of_ble_eq_true rfl))
theorem wX6_found_4 {ret F n h} {v0 v2 v3 v4 st x} : eX6_found ret F (n + 1) 4 [v0, .int x, v2, v3, v4] (st) h 0 0 = (eX6_found ret F n 5 [v0, .int x, v2, v3, v4] (.int x :: st) h 0 0) := (amWp_dec rfl dX6_found_4 rfl).trans rfl
theorem wX6_found_5 {ret F n h} {v0 v1 v2 v3 v4 st x a} : eX6_found ret F (n + 1) 5 [v0, v1, v2, v3, v4] (.int x :: .ref a :: st) h 0 0 = ((h.1 a).1 = 1 ∧ vp_in x (h.1 a).2 ∧ eX6_found ret F n 6 [v0, v1, v2, v3, v4] (.int (h.2.1 a x.toNatClampNeg) :: st) h 0 0) := (amWp_dec rfl dX6_found_5 rfl).trans rfl
theorem wX6_found_6 {ret F n h} {v0 v1 v2 v3 v4 st x} : eX6_found ret F (n + 1) 6 [v0, v1, v2, v3, v4] (.int x :: st) h 0 0 = ((0 ≤ x → eX6_found ret F n 12 [v0, v1, v2, v3, v4] (st) h 0 0) ∧ (¬ 0 ≤ x → eX6_found ret F n 9 [v0, v1, v2, v3, v4] (st) h 0 0)) := (amWp_dec rfl dX6_found_6 rfl).trans rfl
theorem wX6_found_9 {ret F n h} {v0 v1 v2 v3 v4 st} : eX6_found ret F (n + 1) 9 [v0, v1, v2, v3, v4] (st) h 0 0 = (eX6_found ret F n 11 [v0, v1, v2, v3, v4] (.int (-11) :: st) h 0 0) := (amWp_dec rfl dX6_found_9 rfl).trans rfl
theorem wX6_found_11 {ret F n h} {v0 v1 v2 v3 v4 x} : eX6_found ret F (n + 1) 11 [v0, v1, v2, v3, v4] ([.int x]) h 0 0 = (ret (some (.int x)) h 0 0) := (amWp_dec rfl dX6_found_11 rfl).trans (amTrue ⟨_, rfl, rfl⟩)
theorem wX6_found_12 {ret F n h} {v0 v1 v2 v3 v4 st} : eX6_found ret F (n + 1) 12 [v0, v1, v2, v3, v4] (st) h 0 0 = (amIsR v0 ∧ eX6_found ret F n 13 [v0, v1, v2, v3, v4] (v0 :: st) h 0 0) := (amWp_dec rfl dX6_found_12 rfl).trans rfl
theorem wX6_found_13 {ret F n h} {v0 v1 v2 v3 v4 a} : eX6_found ret F (n + 1) 13 [v0, v1, v2, v3, v4] (.ref a :: []) h 0 0 = (h.1 a = (0, 6) ∧ eX6_found ret F n 16 [v0, v1, v2, v3, v4] (va_rf (h.2.2.2.1 a 8) :: []) h 0 0) := (amWp_dec rfl dX6_found_13 rfl).trans (amS4 (Nat.le_of_ble_eq_true rfl) (Nat.le_of_ble_eq_true rfl) (Nat.le_of_ble_eq_true rfl) (Nat.le_of_ble_eq_true rfl))
theorem wX6_found_16 {ret F n h} {v0 v2 v3 v4 st x} : eX6_found ret F (n + 1) 16 [v0, .int x, v2, v3, v4] (st) h 0 0 = (eX6_found ret F n 17 [v0, .int x, v2, v3, v4] (.int x :: st) h 0 0) := (amWp_dec rfl dX6_found_16 rfl).trans rfl
theorem wX6_found_17 {ret F n h} {v0 v1 v2 v3 v4 st x a} : eX6_found ret F (n + 1) 17 [v0, v1, v2, v3, v4] (.int x :: .ref a :: st) h 0 0 = ((h.1 a).1 = 1 ∧ vp_in x (h.1 a).2 ∧ eX6_found ret F n 18 [v0, v1, v2, v3, v4] (.int (h.2.1 a x.toNatClampNeg) :: st) h 0 0) := (amWp_dec rfl dX6_found_17 rfl).trans rfl
theorem wX6_found_18 {ret F n h} {v0 v1 v3 v4 st x} : eX6_found ret F (n + 1) 18 [v0, v1, .int x, v3, v4] (st) h 0 0 = (eX6_found ret F n 19 [v0, v1, .int x, v3, v4] (.int x :: st) h 0 0) := (amWp_dec rfl dX6_found_18 rfl).trans rfl
theorem wX6_found_19 {ret F n h} {v0 v1 v2 v3 v4 st y x} : eX6_found ret F (n + 1) 19 [v0, v1, v2, v3, v4] (.int y :: .int x :: st) h 0 0 = ((x = y → eX6_found ret F n 25 [v0, v1, v2, v3, v4] (st) h 0 0) ∧ (¬ x = y → eX6_found ret F n 22 [v0, v1, v2, v3, v4] (st) h 0 0)) := (amWp_dec rfl dX6_found_19 rfl).trans rfl
theorem wX6_found_22 {ret F n h} {v0 v1 v2 v3 v4 st} : eX6_found ret F (n + 1) 22 [v0, v1, v2, v3, v4] (st) h 0 0 = (eX6_found ret F n 24 [v0, v1, v2, v3, v4] (.int (-12) :: st) h 0 0) := (amWp_dec rfl dX6_found_22 rfl).trans rfl
theorem wX6_found_24 {ret F n h} {v0 v1 v2 v3 v4 x} : eX6_found ret F (n + 1) 24 [v0, v1, v2, v3, v4] ([.int x]) h 0 0 = (ret (some (.int x)) h 0 0) := (amWp_dec rfl dX6_found_24 rfl).trans (amTrue ⟨_, rfl, rfl⟩)
theorem wX6_found_25 {ret F n h} {v0 v1 v2 v4 st x} : eX6_found ret F (n + 1) 25 [v0, v1, v2, .int x, v4] (st) h 0 0 = (eX6_found ret F n 26 [v0, v1, v2, .int x, v4] (.int x :: st) h 0 0) := (amWp_dec rfl dX6_found_25 rfl).trans rfl
theorem wX6_found_26 {ret F n h} {v0 v1 v2 v3 v4 st x} : eX6_found ret F (n + 1) 26 [v0, v1, v2, v3, v4] (.int x :: st) h 0 0 = ((x < 0 → eX6_found ret F n 42 [v0, v1, v2, v3, v4] (st) h 0 0) ∧ (¬ x < 0 → eX6_found ret F n 29 [v0, v1, v2, v3, v4] (st) h 0 0)) := (amWp_dec rfl dX6_found_26 rfl).trans rfl
theorem wX6_found_29 {ret F n h} {v0 v1 v2 v3 st x} : eX6_found ret F (n + 1) 29 [v0, v1, v2, v3, .int x] (st) h 0 0 = (eX6_found ret F n 31 [v0, v1, v2, v3, .int x] (.int x :: st) h 0 0) := (amWp_dec rfl dX6_found_29 rfl).trans rfl
theorem wX6_found_31 {ret F n h} {v0 v1 v2 v3 v4 st} : eX6_found ret F (n + 1) 31 [v0, v1, v2, v3, v4] (st) h 0 0 = (amIsR v0 ∧ eX6_found ret F n 32 [v0, v1, v2, v3, v4] (v0 :: st) h 0 0) := (amWp_dec rfl dX6_found_31 rfl).trans rfl
theorem wX6_found_32 {ret F n h} {v0 v1 v2 v3 v4 r0 a} : eX6_found ret F (n + 1) 32 [v0, v1, v2, v3, v4] (.ref a :: r0 :: []) h 0 0 = (h.1 a = (0, 6) ∧ eX6_found ret F n 35 [v0, v1, v2, v3, v4] (va_rf (h.2.2.2.1 a 9) :: r0 :: []) h 0 0) := (amWp_dec rfl dX6_found_32 rfl).trans (amS4 (Nat.le_of_ble_eq_true rfl) (Nat.le_of_ble_eq_true rfl) (Nat.le_of_ble_eq_true rfl) (Nat.le_of_ble_eq_true rfl))
theorem wX6_found_35 {ret F n h} {v0 v2 v3 v4 st x} : eX6_found ret F (n + 1) 35 [v0, .int x, v2, v3, v4] (st) h 0 0 = (eX6_found ret F n 36 [v0, .int x, v2, v3, v4] (.int x :: st) h 0 0) := (amWp_dec rfl dX6_found_35 rfl).trans rfl
theorem wX6_found_36 {ret F n h} {v0 v1 v2 v3 v4 st x a} : eX6_found ret F (n + 1) 36 [v0, v1, v2, v3, v4] (.int x :: .ref a :: st) h 0 0 = ((h.1 a).1 = 1 ∧ vp_in x (h.1 a).2 ∧ eX6_found ret F n 37 [v0, v1, v2, v3, v4] (.int (h.2.1 a x.toNatClampNeg) :: st) h 0 0) := (amWp_dec rfl dX6_found_36 rfl).trans rfl
theorem wX6_found_37 {ret F n h} {v0 v1 v2 v4 st x} : eX6_found ret F (n + 1) 37 [v0, v1, v2, .int x, v4] (st) h 0 0 = (eX6_found ret F n 38 [v0, v1, v2, .int x, v4] (.int x :: st) h 0 0) := (amWp_dec rfl dX6_found_37 rfl).trans rfl
theorem wX6_found_38 {ret F n h} {v0 v1 v2 v3 v4 st y x} : eX6_found ret F (n + 1) 38 [v0, v1, v2, v3, v4] (.int y :: .int x :: st) h 0 0 = (eX6_found ret F n 39 [v0, v1, v2, v3, v4] (.int (x - y) :: st) h 0 0) := (amWp_dec rfl dX6_found_38 rfl).trans rfl
theorem wX6_found_39 {ret F n h} {v0 v1 v2 v3 v4 st y x} : eX6_found ret F (n + 1) 39 [v0, v1, v2, v3, v4] (.int y :: .int x :: st) h 0 0 = ((x ≤ y → eX6_found ret F n 47 [v0, v1, v2, v3, v4] (st) h 0 0) ∧ (¬ x ≤ y → eX6_found ret F n 42 [v0, v1, v2, v3, v4] (st) h 0 0)) := (amWp_dec rfl dX6_found_39 rfl).trans rfl
theorem wX6_found_42 {ret F n h} {v0 v1 v2 v3 v4 st} : eX6_found ret F (n + 1) 42 [v0, v1, v2, v3, v4] (st) h 0 0 = (eX6_found ret F n 44 [v0, v1, v2, v3, v4] (.int (-13) :: st) h 0 0) := (amWp_dec rfl dX6_found_42 rfl).trans rfl
theorem wX6_found_44 {ret F n h} {v0 v1 v2 v3 v4 st} : eX6_found ret F (n + 1) 44 [v0, v1, v2, v3, v4] (st) h 0 0 = (eX6_found ret F n 48 [v0, v1, v2, v3, v4] (st) h 0 0) := (amWp_dec rfl dX6_found_44 rfl).trans rfl
theorem wX6_found_47 {ret F n h} {v0 v1 v2 v3 v4 st} : eX6_found ret F (n + 1) 47 [v0, v1, v2, v3, v4] (st) h 0 0 = (eX6_found ret F n 48 [v0, v1, v2, v3, v4] (.int (nI 0) :: st) h 0 0) := (amWp_dec rfl dX6_found_47 rfl).trans rfl
theorem wX6_found_48 {ret F n h} {v0 v1 v2 v3 v4 x} : eX6_found ret F (n + 1) 48 [v0, v1, v2, v3, v4] ([.int x]) h 0 0 = (ret (some (.int x)) h 0 0) := (amWp_dec rfl dX6_found_48 rfl).trans (amTrue ⟨_, rfl, rfl⟩)
theorem evX6_found (l : Launch) (G : amG) : ∀ pc S i sz, amLk rX6_found pc = some S → decode cX6_found pc = .ok (i, sz) → amSiteP pc G l yX6_found.cls yX6_found.name yX6_found.desc (amRm 1 0 0) i sz S.1 S.2.1 S.2.2.1 S.2.2.2 := amLk_ok (by
  refine List.forall_mem_cons.mpr ⟨⟨_, _, dX6_found_1, amSite.P (amSiteGet ⟨_, rfl, by decide, Or.inl q1303⟩)⟩, ?_⟩
  refine List.forall_mem_cons.mpr ⟨⟨_, _, dX6_found_13, amSite.P (amSiteGet ⟨_, rfl, by decide, Or.inl q1303⟩)⟩, ?_⟩
  refine List.forall_mem_cons.mpr ⟨⟨_, _, dX6_found_32, amSite.P (amSiteGet ⟨_, rfl, by decide, Or.inl q1304⟩)⟩, ?_⟩
  exact fun _ h => absurd h List.not_mem_nil)
theorem goX6_found {ret F} (hF : amCld cX6_found kX6_found (amLk rX6_found) (some .int) 0 0 ret F) (n : Nat) {pc ls st h k z} (q : sX6_found ret F n pc ls st h k z) : F pc ls st h k z := hF.1 n pc ls st h k z q
theorem metX6_found (l : Launch) (G : amG) : amMet l G yX6_found (ws_ yX6_found cX6_found 5 (some .int)) 1 0 0 tX6_found := by
  refine amMet_of (cut := kX6_found) (by decide +kernel) (evX6_found l G) ?_
  intro as h K hT
  match as, hT with
  | [.ref t, .int s0, .int lane, .int i, .int n0], ⟨sh, s, n, e1, hR, hsh, e2, s4, e3, n7, hK⟩ =>
  refine ⟨Nat.le_of_ble_eq_true rfl, fun F hF => ?_⟩
  show F 0 [.ref t, .int s0, .int lane, .int i, .int n0] [] h 0 0
  obtain ⟨t, rfl⟩ : ∃ i : Nat, i = t := ⟨_, rfl⟩
  subst e1; subst e2; subst e3
  have hs := hsh s s4
  cases ho : sh s with
  | none =>
    rw [ho] at hs hK
    have hs : h.2.1 130 s = -1 := hs
    have n1 : ((0 : Int32) ≤ -1) = False := eq_false (by decide)
    have key : amRet 0 0 K (some (.int (-11))) h 0 0 := amRet.of (by decide) (by decide) hK
    refine goX6_found hF 40 ?_
    simp (disch := omega) only [wX6_found_0, uX6_found_0, wX6_found_1, wX6_found_4, wX6_found_5, wX6_found_6, wX6_found_9, wX6_found_11, wX6_found_12, wX6_found_13, wX6_found_16, wX6_found_17, wX6_found_18, wX6_found_19, wX6_found_22, wX6_found_24, wX6_found_25, wX6_found_26, wX6_found_29, wX6_found_31, wX6_found_32, wX6_found_35, wX6_found_36, wX6_found_37, wX6_found_38, wX6_found_39, wX6_found_42, wX6_found_44, wX6_found_47, wX6_found_48, amSI_1, amSI_2, amSI_3, amSI_s, amU_at, amIsR_ref, amIsR_null, amIsR_rf, amRf_some, amRf_none, amClr_int, amClr_ref, amClr_null, amClr_long, amClr_ra, amClr_rf, amFit_int, amFit_oref, amFit_aref, amFit_onull, amFit_anull, amOptSome, amOptNone, List.cons_append, List.nil_append, true_and, and_true, true_implies, not_true_eq_false, not_false_eq_true, false_implies, and_self, Nat.add_zero, Nat.zero_add, ne_eq, Prod.mk.injEq, amC01_0, amC01_1, amC01_nb, amNb0, amNb1, amTcpI_d, Nat.reduceLeDiff, Nat.reduceAdd, Nat.reduceSub, Nat.reduceEqDiff, Nat.le_refl, amN0le, hR.s, hR.r, amVI, amCl_nI, hs, n1]
    exact key
  | some v =>
    obtain ⟨k, vs⟩ := v
    rw [ho] at hs hK
    obtain ⟨k4, v24, s1, s2, s3⟩ := hs
    have p1 : (0 ≤ nI k) = True := eq_true (by rw [← Int32.not_lt]; exact nI_pos (by omega))
    replace hK : K (some (.int (if ¬ nI k = lane then -12 else if i < 0 then -13 else if vs.length < i.toNatClampNeg + n then -13 else 0))) h := hK
    by_cases c1 : nI k = lane
    · have c1' : (nI k = lane) = True := eq_true c1
      rw [if_neg (fun z => z c1)] at hK
      by_cases c2 : i < 0
      · have c2' : (i < 0) = True := eq_true c2
        rw [if_pos c2] at hK
        have key : amRet 0 0 K (some (.int (-13))) h 0 0 := amRet.of (by decide) (by decide) hK
        refine goX6_found hF 40 ?_
        simp (disch := omega) only [wX6_found_0, uX6_found_0, wX6_found_1, wX6_found_4, wX6_found_5, wX6_found_6, wX6_found_9, wX6_found_11, wX6_found_12, wX6_found_13, wX6_found_16, wX6_found_17, wX6_found_18, wX6_found_19, wX6_found_22, wX6_found_24, wX6_found_25, wX6_found_26, wX6_found_29, wX6_found_31, wX6_found_32, wX6_found_35, wX6_found_36, wX6_found_37, wX6_found_38, wX6_found_39, wX6_found_42, wX6_found_44, wX6_found_47, wX6_found_48, amSI_1, amSI_2, amSI_3, amSI_s, amU_at, amIsR_ref, amIsR_null, amIsR_rf, amRf_some, amRf_none, amClr_int, amClr_ref, amClr_null, amClr_long, amClr_ra, amClr_rf, amFit_int, amFit_oref, amFit_aref, amFit_onull, amFit_anull, amOptSome, amOptNone, List.cons_append, List.nil_append, true_and, and_true, true_implies, not_true_eq_false, not_false_eq_true, false_implies, and_self, Nat.add_zero, Nat.zero_add, ne_eq, Prod.mk.injEq, amC01_0, amC01_1, amC01_nb, amNb0, amNb1, amTcpI_d, Nat.reduceLeDiff, Nat.reduceAdd, Nat.reduceSub, Nat.reduceEqDiff, Nat.le_refl, amN0le, hR.s, hR.r, amVI, amCl_nI, s1, p1, c1', c2']
        exact key
      · have c2' : (i < 0) = False := eq_false c2
        rw [if_neg c2] at hK
        have hc := clamp_lt i
        have ex := clamp_id c2
        generalize i.toNatClampNeg = j at hc ex hK
        subst ex
        have ls := leSub (a := n) (b := j) (l := vs.length) (by omega) hc (by omega)
        by_cases c3 : vs.length < j + n
        · have c3' : (n + j ≤ vs.length) = False := eq_false (by omega)
          rw [if_pos c3] at hK
          have key : amRet 0 0 K (some (.int (-13))) h 0 0 := amRet.of (by decide) (by decide) hK
          refine goX6_found hF 40 ?_
          simp (disch := omega) only [wX6_found_0, uX6_found_0, wX6_found_1, wX6_found_4, wX6_found_5, wX6_found_6, wX6_found_9, wX6_found_11, wX6_found_12, wX6_found_13, wX6_found_16, wX6_found_17, wX6_found_18, wX6_found_19, wX6_found_22, wX6_found_24, wX6_found_25, wX6_found_26, wX6_found_29, wX6_found_31, wX6_found_32, wX6_found_35, wX6_found_36, wX6_found_37, wX6_found_38, wX6_found_39, wX6_found_42, wX6_found_44, wX6_found_47, wX6_found_48, amSI_1, amSI_2, amSI_3, amSI_s, amU_at, amIsR_ref, amIsR_null, amIsR_rf, amRf_some, amRf_none, amClr_int, amClr_ref, amClr_null, amClr_long, amClr_ra, amClr_rf, amFit_int, amFit_oref, amFit_aref, amFit_onull, amFit_anull, amOptSome, amOptNone, List.cons_append, List.nil_append, true_and, and_true, true_implies, not_true_eq_false, not_false_eq_true, false_implies, and_self, Nat.add_zero, Nat.zero_add, ne_eq, Prod.mk.injEq, amC01_0, amC01_1, amC01_nb, amNb0, amNb1, amTcpI_d, Nat.reduceLeDiff, Nat.reduceAdd, Nat.reduceSub, Nat.reduceEqDiff, Nat.le_refl, amN0le, hR.s, hR.r, amVI, amCl_nI, s1, s2, p1, c1', c2', ls, c3']
          exact key
        · have c3' : (n + j ≤ vs.length) = True := eq_true (by omega)
          rw [if_neg c3] at hK
          have key : amRet 0 0 K (some (.int (nI 0))) h 0 0 := amRet.of (by decide) (by decide) hK
          refine goX6_found hF 40 ?_
          simp (disch := omega) only [wX6_found_0, uX6_found_0, wX6_found_1, wX6_found_4, wX6_found_5, wX6_found_6, wX6_found_9, wX6_found_11, wX6_found_12, wX6_found_13, wX6_found_16, wX6_found_17, wX6_found_18, wX6_found_19, wX6_found_22, wX6_found_24, wX6_found_25, wX6_found_26, wX6_found_29, wX6_found_31, wX6_found_32, wX6_found_35, wX6_found_36, wX6_found_37, wX6_found_38, wX6_found_39, wX6_found_42, wX6_found_44, wX6_found_47, wX6_found_48, amSI_1, amSI_2, amSI_3, amSI_s, amU_at, amIsR_ref, amIsR_null, amIsR_rf, amRf_some, amRf_none, amClr_int, amClr_ref, amClr_null, amClr_long, amClr_ra, amClr_rf, amFit_int, amFit_oref, amFit_aref, amFit_onull, amFit_anull, amOptSome, amOptNone, List.cons_append, List.nil_append, true_and, and_true, true_implies, not_true_eq_false, not_false_eq_true, false_implies, and_self, Nat.add_zero, Nat.zero_add, ne_eq, Prod.mk.injEq, amC01_0, amC01_1, amC01_nb, amNb0, amNb1, amTcpI_d, Nat.reduceLeDiff, Nat.reduceAdd, Nat.reduceSub, Nat.reduceEqDiff, Nat.le_refl, amN0le, hR.s, hR.r, amVI, amCl_nI, s1, s2, p1, c1', c2', ls, c3']
          exact key
    · have c1' : (nI k = lane) = False := eq_false c1
      rw [if_pos c1] at hK
      have key : amRet 0 0 K (some (.int (-12))) h 0 0 := amRet.of (by decide) (by decide) hK
      refine goX6_found hF 40 ?_
      simp (disch := omega) only [wX6_found_0, uX6_found_0, wX6_found_1, wX6_found_4, wX6_found_5, wX6_found_6, wX6_found_9, wX6_found_11, wX6_found_12, wX6_found_13, wX6_found_16, wX6_found_17, wX6_found_18, wX6_found_19, wX6_found_22, wX6_found_24, wX6_found_25, wX6_found_26, wX6_found_29, wX6_found_31, wX6_found_32, wX6_found_35, wX6_found_36, wX6_found_37, wX6_found_38, wX6_found_39, wX6_found_42, wX6_found_44, wX6_found_47, wX6_found_48, amSI_1, amSI_2, amSI_3, amSI_s, amU_at, amIsR_ref, amIsR_null, amIsR_rf, amRf_some, amRf_none, amClr_int, amClr_ref, amClr_null, amClr_long, amClr_ra, amClr_rf, amFit_int, amFit_oref, amFit_aref, amFit_onull, amFit_anull, amOptSome, amOptNone, List.cons_append, List.nil_append, true_and, and_true, true_implies, not_true_eq_false, not_false_eq_true, false_implies, and_self, Nat.add_zero, Nat.zero_add, ne_eq, Prod.mk.injEq, amC01_0, amC01_1, amC01_nb, amNb0, amNb1, amTcpI_d, Nat.reduceLeDiff, Nat.reduceAdd, Nat.reduceSub, Nat.reduceEqDiff, Nat.le_refl, amN0le, hR.s, hR.r, amVI, amCl_nI, s1, p1, c1']
      exact key
theorem tX6_found_d {t : Nat} {s0 lane i n0 : Int32} {h : amH} {K : Option Value → amH → Prop} : tX6_found [.ref t, .int s0, .int lane, .int i, .int n0] h K = ∃ (sh : Nat → Option (Nat × List Int64)) (s n : Nat), t = (124 : Nat) ∧ mdAt h ∧ ShM h.2.1 h.2.2.1 sh ∧ s0 = nI s ∧ s < 4 ∧ n0 = nI n ∧ n ≤ 7 ∧ K (some (.int (lackR (sh s) lane i n))) h := rfl
def tX6_cut : amT := fun as h K => match as with
  | [.int k0, .long v] => ∃ k : Nat, k0 = nI k ∧ k < 4 ∧ K (some (.long (cutL k v))) h
  | _ => False
/-! ReadingStagesModel.cut(IJ)J -/
def kX6_cut : Nat → Bool := fun pc => false
def rX6_cut : List (Nat × amS) := []
def eX6_cut (ret : Option Value → amH → Nat → Nat → Prop) (F : amX) : Nat → amX := amWp cX6_cut kX6_cut (amLk rX6_cut) (some .long) 0 0 ret F
def sX6_cut (ret : Option Value → amH → Nat → Nat → Prop) (F : amX) : Nat → amX := amWs cX6_cut kX6_cut (amLk rX6_cut) (some .long) 0 0 ret F
theorem wX6_cut_0 {ret F n h} {v1 v2 st x} : eX6_cut ret F (n + 1) 0 [.int x, v1, v2] (st) h 0 0 = (eX6_cut ret F n 1 [.int x, v1, v2] (.int x :: st) h 0 0) := (amWp_dec rfl dX6_cut_0 rfl).trans rfl
theorem uX6_cut_0 {ret F n h} {v1 v2 st x} : sX6_cut ret F n 0 [.int x, v1, v2] (st) h 0 0 = (eX6_cut ret F n 1 [.int x, v1, v2] (.int x :: st) h 0 0) := (amWs_dec dX6_cut_0 rfl).trans rfl
theorem wX6_cut_1 {ret F n h} {v0 v1 v2 st x} : eX6_cut ret F (n + 1) 1 [v0, v1, v2] (.int x :: st) h 0 0 = ((¬ x = 0 → eX6_cut ret F n 11 [v0, v1, v2] (st) h 0 0) ∧ (x = 0 → eX6_cut ret F n 4 [v0, v1, v2] (st) h 0 0)) := (amWp_dec rfl dX6_cut_1 rfl).trans rfl
theorem wX6_cut_4 {ret F n h} {v0 v2 st y} : eX6_cut ret F (n + 1) 4 [v0, .long y, v2] (st) h 0 0 = (eX6_cut ret F n 5 [v0, .long y, v2] (.long y :: st) h 0 0) := (amWp_dec rfl dX6_cut_4 rfl).trans rfl
theorem wX6_cut_5 {ret F n h} {v0 v1 v2 st x} : eX6_cut ret F (n + 1) 5 [v0, v1, v2] (.long x :: st) h 0 0 = (eX6_cut ret F n 6 [v0, v1, v2] (.int x.toInt32 :: st) h 0 0) := (amWp_dec rfl dX6_cut_5 rfl).trans rfl
theorem wX6_cut_6 {ret F n h} {v0 v1 v2 st x} : eX6_cut ret F (n + 1) 6 [v0, v1, v2] (.int x :: st) h 0 0 = (eX6_cut ret F n 7 [v0, v1, v2] (.int x.toInt8.toInt32 :: st) h 0 0) := (amWp_dec rfl dX6_cut_6 rfl).trans rfl
theorem wX6_cut_7 {ret F n h} {v0 v1 v2 st x} : eX6_cut ret F (n + 1) 7 [v0, v1, v2] (.int x :: st) h 0 0 = (eX6_cut ret F n 8 [v0, v1, v2] (.long x.toInt64 :: st) h 0 0) := (amWp_dec rfl dX6_cut_7 rfl).trans rfl
theorem wX6_cut_8 {ret F n h} {v0 v1 v2 st} : eX6_cut ret F (n + 1) 8 [v0, v1, v2] (st) h 0 0 = (eX6_cut ret F n 35 [v0, v1, v2] (st) h 0 0) := (amWp_dec rfl dX6_cut_8 rfl).trans rfl
theorem wX6_cut_11 {ret F n h} {v1 v2 st x} : eX6_cut ret F (n + 1) 11 [.int x, v1, v2] (st) h 0 0 = (eX6_cut ret F n 12 [.int x, v1, v2] (.int x :: st) h 0 0) := (amWp_dec rfl dX6_cut_11 rfl).trans rfl
theorem wX6_cut_12 {ret F n h} {v0 v1 v2 st} : eX6_cut ret F (n + 1) 12 [v0, v1, v2] (st) h 0 0 = (eX6_cut ret F n 13 [v0, v1, v2] (.int (nI 1) :: st) h 0 0) := (amWp_dec rfl dX6_cut_12 rfl).trans rfl
theorem wX6_cut_13 {ret F n h} {v0 v1 v2 st y x} : eX6_cut ret F (n + 1) 13 [v0, v1, v2] (.int y :: .int x :: st) h 0 0 = ((¬ x = y → eX6_cut ret F n 23 [v0, v1, v2] (st) h 0 0) ∧ (x = y → eX6_cut ret F n 16 [v0, v1, v2] (st) h 0 0)) := (amWp_dec rfl dX6_cut_13 rfl).trans rfl
theorem wX6_cut_16 {ret F n h} {v0 v2 st y} : eX6_cut ret F (n + 1) 16 [v0, .long y, v2] (st) h 0 0 = (eX6_cut ret F n 17 [v0, .long y, v2] (.long y :: st) h 0 0) := (amWp_dec rfl dX6_cut_16 rfl).trans rfl
theorem wX6_cut_17 {ret F n h} {v0 v1 v2 st x} : eX6_cut ret F (n + 1) 17 [v0, v1, v2] (.long x :: st) h 0 0 = (eX6_cut ret F n 18 [v0, v1, v2] (.int x.toInt32 :: st) h 0 0) := (amWp_dec rfl dX6_cut_17 rfl).trans rfl
theorem wX6_cut_18 {ret F n h} {v0 v1 v2 st x} : eX6_cut ret F (n + 1) 18 [v0, v1, v2] (.int x :: st) h 0 0 = (eX6_cut ret F n 19 [v0, v1, v2] (.int x.toInt16.toInt32 :: st) h 0 0) := (amWp_dec rfl dX6_cut_18 rfl).trans rfl
theorem wX6_cut_19 {ret F n h} {v0 v1 v2 st x} : eX6_cut ret F (n + 1) 19 [v0, v1, v2] (.int x :: st) h 0 0 = (eX6_cut ret F n 20 [v0, v1, v2] (.long x.toInt64 :: st) h 0 0) := (amWp_dec rfl dX6_cut_19 rfl).trans rfl
theorem wX6_cut_20 {ret F n h} {v0 v1 v2 st} : eX6_cut ret F (n + 1) 20 [v0, v1, v2] (st) h 0 0 = (eX6_cut ret F n 35 [v0, v1, v2] (st) h 0 0) := (amWp_dec rfl dX6_cut_20 rfl).trans rfl
theorem wX6_cut_23 {ret F n h} {v1 v2 st x} : eX6_cut ret F (n + 1) 23 [.int x, v1, v2] (st) h 0 0 = (eX6_cut ret F n 24 [.int x, v1, v2] (.int x :: st) h 0 0) := (amWp_dec rfl dX6_cut_23 rfl).trans rfl
theorem wX6_cut_24 {ret F n h} {v0 v1 v2 st} : eX6_cut ret F (n + 1) 24 [v0, v1, v2] (st) h 0 0 = (eX6_cut ret F n 25 [v0, v1, v2] (.int (nI 2) :: st) h 0 0) := (amWp_dec rfl dX6_cut_24 rfl).trans rfl
theorem wX6_cut_25 {ret F n h} {v0 v1 v2 st y x} : eX6_cut ret F (n + 1) 25 [v0, v1, v2] (.int y :: .int x :: st) h 0 0 = ((¬ x = y → eX6_cut ret F n 34 [v0, v1, v2] (st) h 0 0) ∧ (x = y → eX6_cut ret F n 28 [v0, v1, v2] (st) h 0 0)) := (amWp_dec rfl dX6_cut_25 rfl).trans rfl
theorem wX6_cut_28 {ret F n h} {v0 v2 st y} : eX6_cut ret F (n + 1) 28 [v0, .long y, v2] (st) h 0 0 = (eX6_cut ret F n 29 [v0, .long y, v2] (.long y :: st) h 0 0) := (amWp_dec rfl dX6_cut_28 rfl).trans rfl
theorem wX6_cut_29 {ret F n h} {v0 v1 v2 st x} : eX6_cut ret F (n + 1) 29 [v0, v1, v2] (.long x :: st) h 0 0 = (eX6_cut ret F n 30 [v0, v1, v2] (.int x.toInt32 :: st) h 0 0) := (amWp_dec rfl dX6_cut_29 rfl).trans rfl
theorem wX6_cut_30 {ret F n h} {v0 v1 v2 st x} : eX6_cut ret F (n + 1) 30 [v0, v1, v2] (.int x :: st) h 0 0 = (eX6_cut ret F n 31 [v0, v1, v2] (.long x.toInt64 :: st) h 0 0) := (amWp_dec rfl dX6_cut_30 rfl).trans rfl
theorem wX6_cut_31 {ret F n h} {v0 v1 v2 st} : eX6_cut ret F (n + 1) 31 [v0, v1, v2] (st) h 0 0 = (eX6_cut ret F n 35 [v0, v1, v2] (st) h 0 0) := (amWp_dec rfl dX6_cut_31 rfl).trans rfl
theorem wX6_cut_34 {ret F n h} {v0 v2 st y} : eX6_cut ret F (n + 1) 34 [v0, .long y, v2] (st) h 0 0 = (eX6_cut ret F n 35 [v0, .long y, v2] (.long y :: st) h 0 0) := (amWp_dec rfl dX6_cut_34 rfl).trans rfl
theorem wX6_cut_35 {ret F n h} {v0 v1 v2 x} : eX6_cut ret F (n + 1) 35 [v0, v1, v2] ([.long x]) h 0 0 = (ret (some (.long x)) h 0 0) := (amWp_dec rfl dX6_cut_35 rfl).trans (amTrue rfl)
theorem evX6_cut (l : Launch) (G : amG) : ∀ pc S i sz, amLk rX6_cut pc = some S → decode cX6_cut pc = .ok (i, sz) → amSiteP pc G l yX6_cut.cls yX6_cut.name yX6_cut.desc (amRm 1 0 0) i sz S.1 S.2.1 S.2.2.1 S.2.2.2 := amLk_ok (by
  exact fun _ h => absurd h List.not_mem_nil)
theorem goX6_cut {ret F} (hF : amCld cX6_cut kX6_cut (amLk rX6_cut) (some .long) 0 0 ret F) (n : Nat) {pc ls st h k z} (q : sX6_cut ret F n pc ls st h k z) : F pc ls st h k z := hF.1 n pc ls st h k z q
theorem metX6_cut (l : Launch) (G : amG) : amMet l G yX6_cut (ws_ yX6_cut cX6_cut 3 (some .long)) 1 0 0 tX6_cut := by
  refine amMet_of (cut := kX6_cut) (by decide +kernel) (evX6_cut l G) ?_
  intro as h K hT
  match as, hT with
  | [.int k0, .long v], ⟨k, e, k4, hK⟩ =>
  refine ⟨Nat.le_of_ble_eq_true rfl, fun F hF => ?_⟩
  show F 0 [.int k0, .long v, .retAddr 0] [] h 0 0
  subst e
  have n1 := n1ne
  have n20 : (nI 2 = 0) = False := by decide
  have n30 : (nI 3 = 0) = False := by decide
  have n21 : (nI 2 = nI 1) = False := by decide
  have n31 : (nI 3 = nI 1) = False := by decide
  have n32 : (nI 3 = nI 2) = False := by decide
  have n00 := n0eq
  rcases (show k = 0 ∨ k = 1 ∨ k = 2 ∨ k = 3 by omega) with e | e | e | e
  · subst e
    refine goX6_cut hF 40 ?_
    simp (disch := omega) only [wX6_cut_0, uX6_cut_0, wX6_cut_1, wX6_cut_4, wX6_cut_5, wX6_cut_6, wX6_cut_7, wX6_cut_8, wX6_cut_11, wX6_cut_12, wX6_cut_13, wX6_cut_16, wX6_cut_17, wX6_cut_18, wX6_cut_19, wX6_cut_20, wX6_cut_23, wX6_cut_24, wX6_cut_25, wX6_cut_28, wX6_cut_29, wX6_cut_30, wX6_cut_31, wX6_cut_34, wX6_cut_35, amSI_1, amSI_2, amSI_3, amSI_s, amU_at, amIsR_ref, amIsR_null, amIsR_rf, amRf_some, amRf_none, amClr_int, amClr_ref, amClr_null, amClr_long, amClr_ra, amClr_rf, amFit_int, amFit_oref, amFit_aref, amFit_onull, amFit_anull, amOptSome, amOptNone, List.cons_append, List.nil_append, true_and, and_true, true_implies, not_true_eq_false, not_false_eq_true, false_implies, and_self, Nat.add_zero, Nat.zero_add, ne_eq, Prod.mk.injEq, amC01_0, amC01_1, amC01_nb, amNb0, amNb1, amTcpI_d, Nat.reduceLeDiff, Nat.reduceAdd, Nat.reduceSub, Nat.reduceEqDiff, Nat.le_refl, amN0le, n00]
    exact amRet.of (by decide) (by decide) hK
  · subst e
    refine goX6_cut hF 40 ?_
    simp (disch := omega) only [wX6_cut_0, uX6_cut_0, wX6_cut_1, wX6_cut_4, wX6_cut_5, wX6_cut_6, wX6_cut_7, wX6_cut_8, wX6_cut_11, wX6_cut_12, wX6_cut_13, wX6_cut_16, wX6_cut_17, wX6_cut_18, wX6_cut_19, wX6_cut_20, wX6_cut_23, wX6_cut_24, wX6_cut_25, wX6_cut_28, wX6_cut_29, wX6_cut_30, wX6_cut_31, wX6_cut_34, wX6_cut_35, amSI_1, amSI_2, amSI_3, amSI_s, amU_at, amIsR_ref, amIsR_null, amIsR_rf, amRf_some, amRf_none, amClr_int, amClr_ref, amClr_null, amClr_long, amClr_ra, amClr_rf, amFit_int, amFit_oref, amFit_aref, amFit_onull, amFit_anull, amOptSome, amOptNone, List.cons_append, List.nil_append, true_and, and_true, true_implies, not_true_eq_false, not_false_eq_true, false_implies, and_self, Nat.add_zero, Nat.zero_add, ne_eq, Prod.mk.injEq, amC01_0, amC01_1, amC01_nb, amNb0, amNb1, amTcpI_d, Nat.reduceLeDiff, Nat.reduceAdd, Nat.reduceSub, Nat.reduceEqDiff, Nat.le_refl, amN0le, n1, eq_self]
    exact amRet.of (by decide) (by decide) hK
  · subst e
    refine goX6_cut hF 40 ?_
    simp (disch := omega) only [wX6_cut_0, uX6_cut_0, wX6_cut_1, wX6_cut_4, wX6_cut_5, wX6_cut_6, wX6_cut_7, wX6_cut_8, wX6_cut_11, wX6_cut_12, wX6_cut_13, wX6_cut_16, wX6_cut_17, wX6_cut_18, wX6_cut_19, wX6_cut_20, wX6_cut_23, wX6_cut_24, wX6_cut_25, wX6_cut_28, wX6_cut_29, wX6_cut_30, wX6_cut_31, wX6_cut_34, wX6_cut_35, amSI_1, amSI_2, amSI_3, amSI_s, amU_at, amIsR_ref, amIsR_null, amIsR_rf, amRf_some, amRf_none, amClr_int, amClr_ref, amClr_null, amClr_long, amClr_ra, amClr_rf, amFit_int, amFit_oref, amFit_aref, amFit_onull, amFit_anull, amOptSome, amOptNone, List.cons_append, List.nil_append, true_and, and_true, true_implies, not_true_eq_false, not_false_eq_true, false_implies, and_self, Nat.add_zero, Nat.zero_add, ne_eq, Prod.mk.injEq, amC01_0, amC01_1, amC01_nb, amNb0, amNb1, amTcpI_d, Nat.reduceLeDiff, Nat.reduceAdd, Nat.reduceSub, Nat.reduceEqDiff, Nat.le_refl, amN0le, n20, n21, eq_self]
    exact amRet.of (by decide) (by decide) hK
  · subst e
    refine goX6_cut hF 40 ?_
    simp (disch := omega) only [wX6_cut_0, uX6_cut_0, wX6_cut_1, wX6_cut_4, wX6_cut_5, wX6_cut_6, wX6_cut_7, wX6_cut_8, wX6_cut_11, wX6_cut_12, wX6_cut_13, wX6_cut_16, wX6_cut_17, wX6_cut_18, wX6_cut_19, wX6_cut_20, wX6_cut_23, wX6_cut_24, wX6_cut_25, wX6_cut_28, wX6_cut_29, wX6_cut_30, wX6_cut_31, wX6_cut_34, wX6_cut_35, amSI_1, amSI_2, amSI_3, amSI_s, amU_at, amIsR_ref, amIsR_null, amIsR_rf, amRf_some, amRf_none, amClr_int, amClr_ref, amClr_null, amClr_long, amClr_ra, amClr_rf, amFit_int, amFit_oref, amFit_aref, amFit_onull, amFit_anull, amOptSome, amOptNone, List.cons_append, List.nil_append, true_and, and_true, true_implies, not_true_eq_false, not_false_eq_true, false_implies, and_self, Nat.add_zero, Nat.zero_add, ne_eq, Prod.mk.injEq, amC01_0, amC01_1, amC01_nb, amNb0, amNb1, amTcpI_d, Nat.reduceLeDiff, Nat.reduceAdd, Nat.reduceSub, Nat.reduceEqDiff, Nat.le_refl, amN0le, n30, n31, n32]
    exact amRet.of (by decide) (by decide) hK
theorem tX6_cut_d {k0 : Int32} {v : Int64} {h : amH} {K : Option Value → amH → Prop} : tX6_cut [.int k0, .long v] h K = ∃ k : Nat, k0 = nI k ∧ k < 4 ∧ K (some (.long (cutL k v))) h := rfl
theorem in3 {x : Int32} : (lN 0 ≤ x.toInt64 ∧ x.toInt64 ≤ lN 3) ↔ ∃ j, j < 4 ∧ x = nI j := isLt (n := 4) (by decide) (by decide)
theorem msFr.il {h : amH} {m : Nat → Nat → Int32} {L : Nat → Nat → Int64} (f : ∀ i : Nat, (i < 124 ∨ 143 ≤ i) → m i = h.2.1 i) (g : ∀ i : Nat, i ≠ 132 → i ≠ 133 → L i = h.2.2.1 i) : msFr h (amIL h m L) := ⟨rfl, rfl, rfl, f, g⟩
/-- the world after a change of the sheets -/
theorem MdW.sh {h : amH} {X : XS} (w : MdW h X) {m : Nat → Nat → Int32} {L : Nat → Nat → Int64} (f : ∀ i : Nat, i ≠ 130 → i ≠ 131 → (i < 134 ∨ 141 ≤ i) → m i = h.2.1 i) (g : ∀ i : Nat, i ≠ 132 → i ≠ 133 → L i = h.2.2.1 i) {sh : Nat → Option (Nat × List Int64)} (hs : ShM m L sh) : msFr h (amIL h m L) ∧ MdW (amIL h m L) (X.1, X.2.1, X.2.2.1, X.2.2.2.1, sh) :=
  ⟨msFr.il (fun i hi => f i (by omega) (by omega) (by omega)) g, w.1, w.2.1.kept (f 125 (by decide) (by decide) (by decide)), w.2.2.1.kept (congrFun (f 124 (by decide) (by decide) (by decide)) 2) (f 126 (by decide) (by decide) (by decide)), w.2.2.2.1.kept (congrFun (f 124 (by decide) (by decide) (by decide)) 5) (f 127 (by decide) (by decide) (by decide)) (f 128 (by decide) (by decide) (by decide)), w.2.2.2.2.1.kept (congrFun (f 124 (by decide) (by decide) (by decide)) 7) (f 129 (by decide) (by decide) (by decide)), hs⟩
theorem ShM.set {m m' : Nat → Nat → Int32} {L L' : Nat → Nat → Int64} {sh : Nat → Option (Nat × List Int64)} (h : ShM m L sh) {s : Nat} {o : Option (Nat × List Int64)} (hs : ShM1 m' L' s o) (e1 : ∀ t, t ≠ s → m' 130 t = m 130 t) (e2 : ∀ t, t ≠ s → m' 131 t = m 131 t) (e3 : ∀ t, t ≠ s → t < 4 → ∀ p, p < 24 → L' 132 (24 * t + p) = L 132 (24 * t + p)) : ShM m' L' (setS sh s o) := by
  intro t ht
  unfold setS
  by_cases q : t = s
  · subst q
    rw [if_pos rfl]
    exact hs
  · rw [if_neg q]
    have := h t ht
    cases ho : sh t with
    | none =>
      rw [ho] at this
      show m' 130 t = _
      rw [e1 t q]
      exact this
    | some v =>
      rw [ho] at this
      obtain ⟨k, vs⟩ := v
      obtain ⟨a1, a2, a3, a4, a5⟩ := this
      exact ⟨a1, a2, by rw [e1 t q]; exact a3, by rw [e2 t q]; exact a4, fun p hp => by rw [e3 t q ht p (by omega)]; exact a5 p hp⟩
def dropR (X : XS) (s : Int32) : XS × Int32 := if ¬ (lN 0 ≤ s.toInt64 ∧ s.toInt64 ≤ lN 3) then (X, -1) else match X.2.2.2.2 s.toNatClampNeg with
  | none => (X, -11)
  | some (_, vs) => (X.setSh s.toNatClampNeg none, nI vs.length)
def tX6_drop : amT := fun as h K => match as with
  | [.ref t, .int s0] => ∃ X : XS, t = (124 : Nat) ∧ MdW h X ∧ ∀ h', msFr h h' → MdW h' (dropR X s0).1 → K (some (.int (dropR X s0).2)) h'
  | _ => False
/-! ReadingStagesModel.drop(I)I -/
def kX6_drop : Nat → Bool := fun pc => false
def rX6_drop : List (Nat × amS) := [(1, 1, 0, 0, tX6_isSheet), (10, 1, 0, 0, amTget 6 8), (22, 1, 0, 0, amTget 6 8), (29, 1, 0, 0, amTget 6 9)]
def eX6_drop (ret : Option Value → amH → Nat → Nat → Prop) (F : amX) : Nat → amX := amWp cX6_drop kX6_drop (amLk rX6_drop) (some .int) 0 0 ret F
def sX6_drop (ret : Option Value → amH → Nat → Nat → Prop) (F : amX) : Nat → amX := amWs cX6_drop kX6_drop (amLk rX6_drop) (some .int) 0 0 ret F
theorem wX6_drop_0 {ret F n h} {v0 st x} : eX6_drop ret F (n + 1) 0 [v0, .int x] (st) h 0 0 = (eX6_drop ret F n 1 [v0, .int x] (.int x :: st) h 0 0) := (amWp_dec rfl dX6_drop_0 rfl).trans rfl
theorem uX6_drop_0 {ret F n h} {v0 st x} : sX6_drop ret F n 0 [v0, .int x] (st) h 0 0 = (eX6_drop ret F n 1 [v0, .int x] (.int x :: st) h 0 0) := (amWs_dec dX6_drop_0 rfl).trans rfl
theorem wX6_drop_1 {ret F n h} {v0 v1 x0} : eX6_drop ret F (n + 1) 1 [v0, v1] (.int x0 :: []) h 0 0 = (tX6_isSheet [.int x0] h (fun v h => eX6_drop ret F n 4 [v0, v1] (v.toList ++ ([])) h 0 0)) := (amWp_dec rfl dX6_drop_1 rfl).trans (amS4 (Nat.le_of_ble_eq_true rfl) (Nat.le_of_ble_eq_true rfl) (Nat.le_of_ble_eq_true rfl) (Nat.le_of_ble_eq_true rfl))
theorem wX6_drop_4 {ret F n h} {v0 v1 st x} : eX6_drop ret F (n + 1) 4 [v0, v1] (.int x :: st) h 0 0 = ((¬ x = 0 → eX6_drop ret F n 9 [v0, v1] (st) h 0 0) ∧ (x = 0 → eX6_drop ret F n 7 [v0, v1] (st) h 0 0)) := (amWp_dec rfl dX6_drop_4 rfl).trans rfl
theorem wX6_drop_7 {ret F n h} {v0 v1 st} : eX6_drop ret F (n + 1) 7 [v0, v1] (st) h 0 0 = (eX6_drop ret F n 8 [v0, v1] (.int (-1) :: st) h 0 0) := (amWp_dec rfl dX6_drop_7 rfl).trans rfl
theorem wX6_drop_8 {ret F n h} {v0 v1 x} : eX6_drop ret F (n + 1) 8 [v0, v1] ([.int x]) h 0 0 = (ret (some (.int x)) h 0 0) := (amWp_dec rfl dX6_drop_8 rfl).trans (amTrue ⟨_, rfl, rfl⟩)
theorem wX6_drop_9 {ret F n h} {v0 v1 st} : eX6_drop ret F (n + 1) 9 [v0, v1] (st) h 0 0 = (amIsR v0 ∧ eX6_drop ret F n 10 [v0, v1] (v0 :: st) h 0 0) := (amWp_dec rfl dX6_drop_9 rfl).trans rfl
theorem wX6_drop_10 {ret F n h} {v0 v1 a} : eX6_drop ret F (n + 1) 10 [v0, v1] (.ref a :: []) h 0 0 = (h.1 a = (0, 6) ∧ eX6_drop ret F n 13 [v0, v1] (va_rf (h.2.2.2.1 a 8) :: []) h 0 0) := (amWp_dec rfl dX6_drop_10 rfl).trans (amS4 (Nat.le_of_ble_eq_true rfl) (Nat.le_of_ble_eq_true rfl) (Nat.le_of_ble_eq_true rfl) (Nat.le_of_ble_eq_true rfl))
theorem wX6_drop_13 {ret F n h} {v0 st x} : eX6_drop ret F (n + 1) 13 [v0, .int x] (st) h 0 0 = (eX6_drop ret F n 14 [v0, .int x] (.int x :: st) h 0 0) := (amWp_dec rfl dX6_drop_13 rfl).trans rfl
theorem wX6_drop_14 {ret F n h} {v0 v1 st x a} : eX6_drop ret F (n + 1) 14 [v0, v1] (.int x :: .ref a :: st) h 0 0 = ((h.1 a).1 = 1 ∧ vp_in x (h.1 a).2 ∧ eX6_drop ret F n 15 [v0, v1] (.int (h.2.1 a x.toNatClampNeg) :: st) h 0 0) := (amWp_dec rfl dX6_drop_14 rfl).trans rfl
theorem wX6_drop_15 {ret F n h} {v0 v1 st x} : eX6_drop ret F (n + 1) 15 [v0, v1] (.int x :: st) h 0 0 = ((0 ≤ x → eX6_drop ret F n 21 [v0, v1] (st) h 0 0) ∧ (¬ 0 ≤ x → eX6_drop ret F n 18 [v0, v1] (st) h 0 0)) := (amWp_dec rfl dX6_drop_15 rfl).trans rfl
theorem wX6_drop_18 {ret F n h} {v0 v1 st} : eX6_drop ret F (n + 1) 18 [v0, v1] (st) h 0 0 = (eX6_drop ret F n 20 [v0, v1] (.int (-11) :: st) h 0 0) := (amWp_dec rfl dX6_drop_18 rfl).trans rfl
theorem wX6_drop_20 {ret F n h} {v0 v1 x} : eX6_drop ret F (n + 1) 20 [v0, v1] ([.int x]) h 0 0 = (ret (some (.int x)) h 0 0) := (amWp_dec rfl dX6_drop_20 rfl).trans (amTrue ⟨_, rfl, rfl⟩)
theorem wX6_drop_21 {ret F n h} {v0 v1 st} : eX6_drop ret F (n + 1) 21 [v0, v1] (st) h 0 0 = (amIsR v0 ∧ eX6_drop ret F n 22 [v0, v1] (v0 :: st) h 0 0) := (amWp_dec rfl dX6_drop_21 rfl).trans rfl
theorem wX6_drop_22 {ret F n h} {v0 v1 a} : eX6_drop ret F (n + 1) 22 [v0, v1] (.ref a :: []) h 0 0 = (h.1 a = (0, 6) ∧ eX6_drop ret F n 25 [v0, v1] (va_rf (h.2.2.2.1 a 8) :: []) h 0 0) := (amWp_dec rfl dX6_drop_22 rfl).trans (amS4 (Nat.le_of_ble_eq_true rfl) (Nat.le_of_ble_eq_true rfl) (Nat.le_of_ble_eq_true rfl) (Nat.le_of_ble_eq_true rfl))
theorem wX6_drop_25 {ret F n h} {v0 st x} : eX6_drop ret F (n + 1) 25 [v0, .int x] (st) h 0 0 = (eX6_drop ret F n 26 [v0, .int x] (.int x :: st) h 0 0) := (amWp_dec rfl dX6_drop_25 rfl).trans rfl
theorem wX6_drop_26 {ret F n h} {v0 v1 st} : eX6_drop ret F (n + 1) 26 [v0, v1] (st) h 0 0 = (eX6_drop ret F n 27 [v0, v1] (.int (-1) :: st) h 0 0) := (amWp_dec rfl dX6_drop_26 rfl).trans rfl
theorem wX6_drop_27 {ret F n h} {v0 v1 st y x a} : eX6_drop ret F (n + 1) 27 [v0, v1] (.int y :: .int x :: .ref a :: st) h 0 0 = ((h.1 a).1 = 1 ∧ vp_in x (h.1 a).2 ∧ amN0 ≤ a ∧ eX6_drop ret F n 28 [v0, v1] (st) (amSI h (amU h.2.1 a x.toNatClampNeg y)) 0 0) := (amWp_dec rfl dX6_drop_27 rfl).trans rfl
theorem wX6_drop_28 {ret F n h} {v0 v1 st} : eX6_drop ret F (n + 1) 28 [v0, v1] (st) h 0 0 = (amIsR v0 ∧ eX6_drop ret F n 29 [v0, v1] (v0 :: st) h 0 0) := (amWp_dec rfl dX6_drop_28 rfl).trans rfl
theorem wX6_drop_29 {ret F n h} {v0 v1 a} : eX6_drop ret F (n + 1) 29 [v0, v1] (.ref a :: []) h 0 0 = (h.1 a = (0, 6) ∧ eX6_drop ret F n 32 [v0, v1] (va_rf (h.2.2.2.1 a 9) :: []) h 0 0) := (amWp_dec rfl dX6_drop_29 rfl).trans (amS4 (Nat.le_of_ble_eq_true rfl) (Nat.le_of_ble_eq_true rfl) (Nat.le_of_ble_eq_true rfl) (Nat.le_of_ble_eq_true rfl))
theorem wX6_drop_32 {ret F n h} {v0 st x} : eX6_drop ret F (n + 1) 32 [v0, .int x] (st) h 0 0 = (eX6_drop ret F n 33 [v0, .int x] (.int x :: st) h 0 0) := (amWp_dec rfl dX6_drop_32 rfl).trans rfl
theorem wX6_drop_33 {ret F n h} {v0 v1 st x a} : eX6_drop ret F (n + 1) 33 [v0, v1] (.int x :: .ref a :: st) h 0 0 = ((h.1 a).1 = 1 ∧ vp_in x (h.1 a).2 ∧ eX6_drop ret F n 34 [v0, v1] (.int (h.2.1 a x.toNatClampNeg) :: st) h 0 0) := (amWp_dec rfl dX6_drop_33 rfl).trans rfl
theorem wX6_drop_34 {ret F n h} {v0 v1 x} : eX6_drop ret F (n + 1) 34 [v0, v1] ([.int x]) h 0 0 = (ret (some (.int x)) h 0 0) := (amWp_dec rfl dX6_drop_34 rfl).trans (amTrue ⟨_, rfl, rfl⟩)
theorem evX6_drop (l : Launch) (G : amG) : ∀ pc S i sz, amLk rX6_drop pc = some S → decode cX6_drop pc = .ok (i, sz) → amSiteP pc G l yX6_drop.cls yX6_drop.name yX6_drop.desc (amRm 3 0 0) i sz S.1 S.2.1 S.2.2.1 S.2.2.2 := amLk_ok (by
  refine List.forall_mem_cons.mpr ⟨⟨_, _, dX6_drop_1, amSite.P (amSiteS (metX6_isSheet l G) rfl (by decide) (by decide) (lw_S q1685 q1686 q94 q1687) ⟨by decide +kernel, by decide +kernel, by decide +kernel⟩)⟩, ?_⟩
  refine List.forall_mem_cons.mpr ⟨⟨_, _, dX6_drop_10, amSite.P (amSiteGet ⟨_, rfl, by decide, Or.inl q1303⟩)⟩, ?_⟩
  refine List.forall_mem_cons.mpr ⟨⟨_, _, dX6_drop_22, amSite.P (amSiteGet ⟨_, rfl, by decide, Or.inl q1303⟩)⟩, ?_⟩
  refine List.forall_mem_cons.mpr ⟨⟨_, _, dX6_drop_29, amSite.P (amSiteGet ⟨_, rfl, by decide, Or.inl q1304⟩)⟩, ?_⟩
  exact fun _ h => absurd h List.not_mem_nil)
theorem goX6_drop {ret F} (hF : amCld cX6_drop kX6_drop (amLk rX6_drop) (some .int) 0 0 ret F) (n : Nat) {pc ls st h k z} (q : sX6_drop ret F n pc ls st h k z) : F pc ls st h k z := hF.1 n pc ls st h k z q
theorem metX6_drop (l : Launch) (G : amG) : amMet l G yX6_drop (ws_ yX6_drop cX6_drop 2 (some .int)) 3 0 0 tX6_drop := by
  refine amMet_of (cut := kX6_drop) (by decide +kernel) (evX6_drop l G) ?_
  intro as h K hT
  match as, hT with
  | [.ref t, .int s0], ⟨X, e1, w, hK⟩ =>
  refine ⟨Nat.le_of_ble_eq_true rfl, fun F hF => ?_⟩
  show F 0 [.ref t, .int s0] [] h 0 0
  obtain ⟨t, rfl⟩ : ∃ i : Nat, i = t := ⟨_, rfl⟩
  subst e1
  have hR := w.1
  have hsh := w.2.2.2.2.2
  by_cases q : lN 0 ≤ s0.toInt64 ∧ s0.toInt64 ≤ lN 3
  · obtain ⟨s, s4, rfl⟩ := in3.mp q
    rw [dropR, if_neg (fun z => z q), amCl_nI (by omega)] at hK
    have hs := hsh s s4
    cases ho : X.2.2.2.2 s with
    | none =>
      rw [ho] at hs hK
      have hs : h.2.1 130 s = -1 := hs
      have n1 : ((0 : Int32) ≤ -1) = False := eq_false (by decide)
      have key := hK h (msFr.rf h) w
      refine goX6_drop hF 40 ?_
      simp (disch := omega) only [wX6_drop_0, uX6_drop_0, wX6_drop_1, wX6_drop_4, wX6_drop_7, wX6_drop_8, wX6_drop_9, wX6_drop_10, wX6_drop_13, wX6_drop_14, wX6_drop_15, wX6_drop_18, wX6_drop_20, wX6_drop_21, wX6_drop_22, wX6_drop_25, wX6_drop_26, wX6_drop_27, wX6_drop_28, wX6_drop_29, wX6_drop_32, wX6_drop_33, wX6_drop_34, amSI_1, amSI_2, amSI_3, amSI_s, amU_at, amIsR_ref, amIsR_null, amIsR_rf, amRf_some, amRf_none, amClr_int, amClr_ref, amClr_null, amClr_long, amClr_ra, amClr_rf, amFit_int, amFit_oref, amFit_aref, amFit_onull, amFit_anull, amOptSome, amOptNone, List.cons_append, List.nil_append, true_and, and_true, true_implies, not_true_eq_false, not_false_eq_true, false_implies, and_self, Nat.add_zero, Nat.zero_add, ne_eq, Prod.mk.injEq, amC01_0, amC01_1, amC01_nb, amNb0, amNb1, amTcpI_d, Nat.reduceLeDiff, Nat.reduceAdd, Nat.reduceSub, Nat.reduceEqDiff, Nat.le_refl, amN0le, hR.s, hR.r, tX6_isSheet_d, q, amVI, amCl_nI, hs, n1]
      exact amRet.of (by decide) (by decide) key
    | some v =>
      obtain ⟨k, vs⟩ := v
      rw [ho] at hs hK
      obtain ⟨k4, v24, s1, s2, s3⟩ := hs
      have p1 : (0 ≤ nI k) = True := eq_true (by rw [← Int32.not_lt]; exact nI_pos (by omega))
      obtain ⟨g1, g2⟩ := w.sh (m := amU h.2.1 130 s (-1)) (L := h.2.2.1) (fun i a1 a2 a3 => by simp (disch := omega) only [amU_at, amU_ne, amU_nj, amU_neR, up_ne, up_at, amSI_2]) (fun _ _ _ => rfl) (hsh.set (s := s) (o := none) (by
        show amU h.2.1 130 s (-1) 130 s = -1
        simp (disch := omega) only [amU_at, amU_ne, amU_nj, amU_neR, up_ne, up_at, amSI_2]) (fun t ht => by simp (disch := omega) only [amU_at, amU_ne, amU_nj, amU_neR, up_ne, up_at, amSI_2]) (fun t ht => by simp (disch := omega) only [amU_at, amU_ne, amU_nj, amU_neR, up_ne, up_at, amSI_2]) (fun _ _ _ _ _ => rfl))
      have key := hK _ g1 g2
      refine goX6_drop hF 40 ?_
      simp (disch := omega) only [wX6_drop_0, uX6_drop_0, wX6_drop_1, wX6_drop_4, wX6_drop_7, wX6_drop_8, wX6_drop_9, wX6_drop_10, wX6_drop_13, wX6_drop_14, wX6_drop_15, wX6_drop_18, wX6_drop_20, wX6_drop_21, wX6_drop_22, wX6_drop_25, wX6_drop_26, wX6_drop_27, wX6_drop_28, wX6_drop_29, wX6_drop_32, wX6_drop_33, wX6_drop_34, amSI_1, amSI_2, amSI_3, amSI_s, amU_at, amIsR_ref, amIsR_null, amIsR_rf, amRf_some, amRf_none, amClr_int, amClr_ref, amClr_null, amClr_long, amClr_ra, amClr_rf, amFit_int, amFit_oref, amFit_aref, amFit_onull, amFit_anull, amOptSome, amOptNone, List.cons_append, List.nil_append, true_and, and_true, true_implies, not_true_eq_false, not_false_eq_true, false_implies, and_self, Nat.add_zero, Nat.zero_add, ne_eq, Prod.mk.injEq, amC01_0, amC01_1, amC01_nb, amNb0, amNb1, amTcpI_d, Nat.reduceLeDiff, Nat.reduceAdd, Nat.reduceSub, Nat.reduceEqDiff, Nat.le_refl, amN0le, hR.s, hR.r, tX6_isSheet_d, q, amVI, amCl_nI, s1, s2, p1, amU_ne]
      exact amRet.of (by decide) (by decide) key
  · rw [dropR, if_pos q] at hK
    have key := hK h (msFr.rf h) w
    refine goX6_drop hF 40 ?_
    simp (disch := omega) only [wX6_drop_0, uX6_drop_0, wX6_drop_1, wX6_drop_4, wX6_drop_7, wX6_drop_8, wX6_drop_9, wX6_drop_10, wX6_drop_13, wX6_drop_14, wX6_drop_15, wX6_drop_18, wX6_drop_20, wX6_drop_21, wX6_drop_22, wX6_drop_25, wX6_drop_26, wX6_drop_27, wX6_drop_28, wX6_drop_29, wX6_drop_32, wX6_drop_33, wX6_drop_34, amSI_1, amSI_2, amSI_3, amSI_s, amU_at, amIsR_ref, amIsR_null, amIsR_rf, amRf_some, amRf_none, amClr_int, amClr_ref, amClr_null, amClr_long, amClr_ra, amClr_rf, amFit_int, amFit_oref, amFit_aref, amFit_onull, amFit_anull, amOptSome, amOptNone, List.cons_append, List.nil_append, true_and, and_true, true_implies, not_true_eq_false, not_false_eq_true, false_implies, and_self, Nat.add_zero, Nat.zero_add, ne_eq, Prod.mk.injEq, amC01_0, amC01_1, amC01_nb, amNb0, amNb1, amTcpI_d, Nat.reduceLeDiff, Nat.reduceAdd, Nat.reduceSub, Nat.reduceEqDiff, Nat.le_refl, amN0le, hR.s, hR.r, tX6_isSheet_d, q]
    exact amRet.of (by decide) (by decide) key
theorem tX6_drop_d {t : Nat} {s0 : Int32} {h : amH} {K : Option Value → amH → Prop} : tX6_drop [.ref t, .int s0] h K = ∃ X : XS, t = (124 : Nat) ∧ MdW h X ∧ ∀ h', msFr h h' → MdW h' (dropR X s0).1 → K (some (.int (dropR X s0).2)) h' := rfl
def itemR (X : XS) (s lane i : Int32) (v : Int64) : XS × Int32 := if ¬ okS s lane then (X, -1) else if lackR (X.2.2.2.2 s.toNatClampNeg) lane i 1 < 0 then (X, lackR (X.2.2.2.2 s.toNatClampNeg) lane i 1) else match X.2.2.2.2 s.toNatClampNeg with
  | none => (X, -11)
  | some (k, vs) => (X.setSh s.toNatClampNeg (some (k, vs.set i.toNatClampNeg (cutL k v))), nI 1)
theorem lack_ok {o : Option (Nat × List Int64)} {lane i : Int32} {n : Nat} (h : ¬ lackR o lane i n < 0) : lackR o lane i n = nI 0 ∧ ∃ (k : Nat) (vs : List Int64) (j : Nat), o = some (k, vs) ∧ lane = nI k ∧ i = nI j ∧ j < 2147483648 ∧ j + n ≤ vs.length := by
  cases o with
  | none => exact absurd (by decide : (-11 : Int32) < 0) h
  | some v =>
    obtain ⟨k, vs⟩ := v
    have e : lackR (some (k, vs)) lane i n = if ¬ nI k = lane then -12 else if i < 0 then -13 else if vs.length < i.toNatClampNeg + n then -13 else 0 := rfl
    rw [e] at h ⊢
    by_cases c1 : nI k = lane
    · rw [if_neg (fun z => z c1)] at h ⊢
      by_cases c2 : i < 0
      · rw [if_pos c2] at h; exact absurd (by decide) h
      · rw [if_neg c2] at h ⊢
        by_cases c3 : vs.length < i.toNatClampNeg + n
        · rw [if_pos c3] at h; exact absurd (by decide) h
        · rw [if_neg c3]
          exact ⟨rfl, k, vs, _, rfl, c1.symm, clamp_id c2, clamp_lt i, by omega⟩
    · rw [if_pos c1] at h; exact absurd (by decide) h
theorem setI_getD {l : List Int64} {k i : Nat} {x : Int64} (hk : k < l.length) : (l.set k x).getD i 0 = if i = k then x else l.getD i 0 := by
  rw [List.getD_eq_getElem?_getD, List.getElem?_set]
  by_cases e : k = i
  · subst e; simp [hk]
  · rw [if_neg e, if_neg (fun q => e q.symm), List.getD_eq_getElem?_getD]
def tX6_item : amT := fun as h K => match as with
  | [.ref t, .int s0, .int lane, .int i, .long v] => ∃ X : XS, t = (124 : Nat) ∧ MdW h X ∧ ∀ h', msFr h h' → MdW h' (itemR X s0 lane i v).1 → K (some (.int (itemR X s0 lane i v).2)) h'
  | _ => False
/-! ReadingStagesModel.item(IIIJ)I -/
def kX6_item : Nat → Bool := fun pc => false
def rX6_item : List (Nat × amS) := [(1, 1, 0, 0, tX6_isSheet), (10, 0, 0, 0, amTcon (.long (3))), (13, 3, 0, 0, tX6_in), (26, 5, 0, 0, (amRecv 6 tX6_found)), (40, 1, 0, 0, amTget 6 10), (52, 2, 0, 0, tX6_cut)]
def eX6_item (ret : Option Value → amH → Nat → Nat → Prop) (F : amX) : Nat → amX := amWp cX6_item kX6_item (amLk rX6_item) (some .int) 0 0 ret F
def sX6_item (ret : Option Value → amH → Nat → Nat → Prop) (F : amX) : Nat → amX := amWs cX6_item kX6_item (amLk rX6_item) (some .int) 0 0 ret F
theorem wX6_item_0 {ret F n h} {v0 v2 v3 v4 v5 v6 st x} : eX6_item ret F (n + 1) 0 [v0, .int x, v2, v3, v4, v5, v6] (st) h 0 0 = (eX6_item ret F n 1 [v0, .int x, v2, v3, v4, v5, v6] (.int x :: st) h 0 0) := (amWp_dec rfl dX6_item_0 rfl).trans rfl
theorem uX6_item_0 {ret F n h} {v0 v2 v3 v4 v5 v6 st x} : sX6_item ret F n 0 [v0, .int x, v2, v3, v4, v5, v6] (st) h 0 0 = (eX6_item ret F n 1 [v0, .int x, v2, v3, v4, v5, v6] (.int x :: st) h 0 0) := (amWs_dec dX6_item_0 rfl).trans rfl
theorem wX6_item_1 {ret F n h} {v0 v1 v2 v3 v4 v5 v6 x0} : eX6_item ret F (n + 1) 1 [v0, v1, v2, v3, v4, v5, v6] (.int x0 :: []) h 0 0 = (tX6_isSheet [.int x0] h (fun v h => eX6_item ret F n 4 [v0, v1, v2, v3, v4, v5, v6] (v.toList ++ ([])) h 0 0)) := (amWp_dec rfl dX6_item_1 rfl).trans (amS4 (Nat.le_of_ble_eq_true rfl) (Nat.le_of_ble_eq_true rfl) (Nat.le_of_ble_eq_true rfl) (Nat.le_of_ble_eq_true rfl))
theorem wX6_item_4 {ret F n h} {v0 v1 v2 v3 v4 v5 v6 st x} : eX6_item ret F (n + 1) 4 [v0, v1, v2, v3, v4, v5, v6] (.int x :: st) h 0 0 = ((x = 0 → eX6_item ret F n 19 [v0, v1, v2, v3, v4, v5, v6] (st) h 0 0) ∧ (¬ x = 0 → eX6_item ret F n 7 [v0, v1, v2, v3, v4, v5, v6] (st) h 0 0)) := (amWp_dec rfl dX6_item_4 rfl).trans rfl
theorem wX6_item_7 {ret F n h} {v0 v1 v3 v4 v5 v6 st x} : eX6_item ret F (n + 1) 7 [v0, v1, .int x, v3, v4, v5, v6] (st) h 0 0 = (eX6_item ret F n 8 [v0, v1, .int x, v3, v4, v5, v6] (.int x :: st) h 0 0) := (amWp_dec rfl dX6_item_7 rfl).trans rfl
theorem wX6_item_8 {ret F n h} {v0 v1 v2 v3 v4 v5 v6 st x} : eX6_item ret F (n + 1) 8 [v0, v1, v2, v3, v4, v5, v6] (.int x :: st) h 0 0 = (eX6_item ret F n 9 [v0, v1, v2, v3, v4, v5, v6] (.long x.toInt64 :: st) h 0 0) := (amWp_dec rfl dX6_item_8 rfl).trans rfl
theorem wX6_item_9 {ret F n h} {v0 v1 v2 v3 v4 v5 v6 st} : eX6_item ret F (n + 1) 9 [v0, v1, v2, v3, v4, v5, v6] (st) h 0 0 = (eX6_item ret F n 10 [v0, v1, v2, v3, v4, v5, v6] (.long (lN 0) :: st) h 0 0) := (amWp_dec rfl dX6_item_9 rfl).trans rfl
theorem wX6_item_10 {ret F n h} {v0 v1 v2 v3 v4 v5 v6 r0 r1} : eX6_item ret F (n + 1) 10 [v0, v1, v2, v3, v4, v5, v6] (r0 :: r1 :: []) h 0 0 = (eX6_item ret F n 13 [v0, v1, v2, v3, v4, v5, v6] (.long (lN 3) :: r0 :: r1 :: []) h 0 0) := (amWp_dec rfl dX6_item_10 rfl).trans (amS4 (Nat.le_of_ble_eq_true rfl) (Nat.le_of_ble_eq_true rfl) (Nat.le_of_ble_eq_true rfl) (Nat.le_of_ble_eq_true rfl))
theorem wX6_item_13 {ret F n h} {v0 v1 v2 v3 v4 v5 v6 x2 x1 x0} : eX6_item ret F (n + 1) 13 [v0, v1, v2, v3, v4, v5, v6] (.long x2 :: .long x1 :: .long x0 :: []) h 0 0 = (tX6_in [.long x0, .long x1, .long x2] h (fun v h => eX6_item ret F n 16 [v0, v1, v2, v3, v4, v5, v6] (v.toList ++ ([])) h 0 0)) := (amWp_dec rfl dX6_item_13 rfl).trans (amS4 (Nat.le_of_ble_eq_true rfl) (Nat.le_of_ble_eq_true rfl) (Nat.le_of_ble_eq_true rfl) (Nat.le_of_ble_eq_true rfl))
theorem wX6_item_16 {ret F n h} {v0 v1 v2 v3 v4 v5 v6 st x} : eX6_item ret F (n + 1) 16 [v0, v1, v2, v3, v4, v5, v6] (.int x :: st) h 0 0 = ((¬ x = 0 → eX6_item ret F n 21 [v0, v1, v2, v3, v4, v5, v6] (st) h 0 0) ∧ (x = 0 → eX6_item ret F n 19 [v0, v1, v2, v3, v4, v5, v6] (st) h 0 0)) := (amWp_dec rfl dX6_item_16 rfl).trans rfl
theorem wX6_item_19 {ret F n h} {v0 v1 v2 v3 v4 v5 v6 st} : eX6_item ret F (n + 1) 19 [v0, v1, v2, v3, v4, v5, v6] (st) h 0 0 = (eX6_item ret F n 20 [v0, v1, v2, v3, v4, v5, v6] (.int (-1) :: st) h 0 0) := (amWp_dec rfl dX6_item_19 rfl).trans rfl
theorem wX6_item_20 {ret F n h} {v0 v1 v2 v3 v4 v5 v6 x} : eX6_item ret F (n + 1) 20 [v0, v1, v2, v3, v4, v5, v6] ([.int x]) h 0 0 = (ret (some (.int x)) h 0 0) := (amWp_dec rfl dX6_item_20 rfl).trans (amTrue ⟨_, rfl, rfl⟩)
theorem wX6_item_21 {ret F n h} {v0 v1 v2 v3 v4 v5 v6 st} : eX6_item ret F (n + 1) 21 [v0, v1, v2, v3, v4, v5, v6] (st) h 0 0 = (amIsR v0 ∧ eX6_item ret F n 22 [v0, v1, v2, v3, v4, v5, v6] (v0 :: st) h 0 0) := (amWp_dec rfl dX6_item_21 rfl).trans rfl
theorem wX6_item_22 {ret F n h} {v0 v2 v3 v4 v5 v6 st x} : eX6_item ret F (n + 1) 22 [v0, .int x, v2, v3, v4, v5, v6] (st) h 0 0 = (eX6_item ret F n 23 [v0, .int x, v2, v3, v4, v5, v6] (.int x :: st) h 0 0) := (amWp_dec rfl dX6_item_22 rfl).trans rfl
theorem wX6_item_23 {ret F n h} {v0 v1 v3 v4 v5 v6 st x} : eX6_item ret F (n + 1) 23 [v0, v1, .int x, v3, v4, v5, v6] (st) h 0 0 = (eX6_item ret F n 24 [v0, v1, .int x, v3, v4, v5, v6] (.int x :: st) h 0 0) := (amWp_dec rfl dX6_item_23 rfl).trans rfl
theorem wX6_item_24 {ret F n h} {v0 v1 v2 v4 v5 v6 st x} : eX6_item ret F (n + 1) 24 [v0, v1, v2, .int x, v4, v5, v6] (st) h 0 0 = (eX6_item ret F n 25 [v0, v1, v2, .int x, v4, v5, v6] (.int x :: st) h 0 0) := (amWp_dec rfl dX6_item_24 rfl).trans rfl
theorem wX6_item_25 {ret F n h} {v0 v1 v2 v3 v4 v5 v6 st} : eX6_item ret F (n + 1) 25 [v0, v1, v2, v3, v4, v5, v6] (st) h 0 0 = (eX6_item ret F n 26 [v0, v1, v2, v3, v4, v5, v6] (.int (nI 1) :: st) h 0 0) := (amWp_dec rfl dX6_item_25 rfl).trans rfl
theorem wX6_item_26 {ret F n h} {v0 v1 v2 v3 v4 v5 v6 x4 x3 x2 x1 x0} : eX6_item ret F (n + 1) 26 [v0, v1, v2, v3, v4, v5, v6] (.int x4 :: .int x3 :: .int x2 :: .int x1 :: .ref x0 :: []) h 0 0 = (h.1 x0 = (0, 6) ∧ tX6_found [.ref x0, .int x1, .int x2, .int x3, .int x4] h (fun v h => eX6_item ret F n 29 [v0, v1, v2, v3, v4, v5, v6] (v.toList ++ ([])) h 0 0)) := (amWp_dec rfl dX6_item_26 rfl).trans (amS4 (Nat.le_of_ble_eq_true rfl) (Nat.le_of_ble_eq_true rfl) (Nat.le_of_ble_eq_true rfl) (Nat.le_of_ble_eq_true rfl))
theorem wX6_item_29 {ret F n h} {v0 v1 v2 v3 v4 v5 v6 st x} : eX6_item ret F (n + 1) 29 [v0, v1, v2, v3, v4, v5, v6] (.int x :: st) h 0 0 = (eX6_item ret F n 31 [v0, v1, v2, v3, v4, amClr v5, .int x] (st) h 0 0) := (amWp_dec rfl dX6_item_29 rfl).trans (amTrue (Nat.le_of_ble_eq_true rfl))
theorem wX6_item_31 {ret F n h} {v0 v1 v2 v3 v4 v5 st x} : eX6_item ret F (n + 1) 31 [v0, v1, v2, v3, v4, v5, .int x] (st) h 0 0 = (eX6_item ret F n 33 [v0, v1, v2, v3, v4, v5, .int x] (.int x :: st) h 0 0) := (amWp_dec rfl dX6_item_31 rfl).trans rfl
theorem wX6_item_33 {ret F n h} {v0 v1 v2 v3 v4 v5 v6 st x} : eX6_item ret F (n + 1) 33 [v0, v1, v2, v3, v4, v5, v6] (.int x :: st) h 0 0 = ((0 ≤ x → eX6_item ret F n 39 [v0, v1, v2, v3, v4, v5, v6] (st) h 0 0) ∧ (¬ 0 ≤ x → eX6_item ret F n 36 [v0, v1, v2, v3, v4, v5, v6] (st) h 0 0)) := (amWp_dec rfl dX6_item_33 rfl).trans rfl
theorem wX6_item_36 {ret F n h} {v0 v1 v2 v3 v4 v5 st x} : eX6_item ret F (n + 1) 36 [v0, v1, v2, v3, v4, v5, .int x] (st) h 0 0 = (eX6_item ret F n 38 [v0, v1, v2, v3, v4, v5, .int x] (.int x :: st) h 0 0) := (amWp_dec rfl dX6_item_36 rfl).trans rfl
theorem wX6_item_38 {ret F n h} {v0 v1 v2 v3 v4 v5 v6 x} : eX6_item ret F (n + 1) 38 [v0, v1, v2, v3, v4, v5, v6] ([.int x]) h 0 0 = (ret (some (.int x)) h 0 0) := (amWp_dec rfl dX6_item_38 rfl).trans (amTrue ⟨_, rfl, rfl⟩)
theorem wX6_item_39 {ret F n h} {v0 v1 v2 v3 v4 v5 v6 st} : eX6_item ret F (n + 1) 39 [v0, v1, v2, v3, v4, v5, v6] (st) h 0 0 = (amIsR v0 ∧ eX6_item ret F n 40 [v0, v1, v2, v3, v4, v5, v6] (v0 :: st) h 0 0) := (amWp_dec rfl dX6_item_39 rfl).trans rfl
theorem wX6_item_40 {ret F n h} {v0 v1 v2 v3 v4 v5 v6 a} : eX6_item ret F (n + 1) 40 [v0, v1, v2, v3, v4, v5, v6] (.ref a :: []) h 0 0 = (h.1 a = (0, 6) ∧ eX6_item ret F n 43 [v0, v1, v2, v3, v4, v5, v6] (va_rf (h.2.2.2.1 a 10) :: []) h 0 0) := (amWp_dec rfl dX6_item_40 rfl).trans (amS4 (Nat.le_of_ble_eq_true rfl) (Nat.le_of_ble_eq_true rfl) (Nat.le_of_ble_eq_true rfl) (Nat.le_of_ble_eq_true rfl))
theorem wX6_item_43 {ret F n h} {v0 v1 v2 v3 v4 v5 v6 st} : eX6_item ret F (n + 1) 43 [v0, v1, v2, v3, v4, v5, v6] (st) h 0 0 = (eX6_item ret F n 45 [v0, v1, v2, v3, v4, v5, v6] (.int (nI 24) :: st) h 0 0) := (amWp_dec rfl dX6_item_43 rfl).trans rfl
theorem wX6_item_45 {ret F n h} {v0 v2 v3 v4 v5 v6 st x} : eX6_item ret F (n + 1) 45 [v0, .int x, v2, v3, v4, v5, v6] (st) h 0 0 = (eX6_item ret F n 46 [v0, .int x, v2, v3, v4, v5, v6] (.int x :: st) h 0 0) := (amWp_dec rfl dX6_item_45 rfl).trans rfl
theorem wX6_item_46 {ret F n h} {v0 v1 v2 v3 v4 v5 v6 st y x} : eX6_item ret F (n + 1) 46 [v0, v1, v2, v3, v4, v5, v6] (.int y :: .int x :: st) h 0 0 = (eX6_item ret F n 47 [v0, v1, v2, v3, v4, v5, v6] (.int (x * y) :: st) h 0 0) := (amWp_dec rfl dX6_item_46 rfl).trans rfl
theorem wX6_item_47 {ret F n h} {v0 v1 v2 v4 v5 v6 st x} : eX6_item ret F (n + 1) 47 [v0, v1, v2, .int x, v4, v5, v6] (st) h 0 0 = (eX6_item ret F n 48 [v0, v1, v2, .int x, v4, v5, v6] (.int x :: st) h 0 0) := (amWp_dec rfl dX6_item_47 rfl).trans rfl
theorem wX6_item_48 {ret F n h} {v0 v1 v2 v3 v4 v5 v6 st y x} : eX6_item ret F (n + 1) 48 [v0, v1, v2, v3, v4, v5, v6] (.int y :: .int x :: st) h 0 0 = (eX6_item ret F n 49 [v0, v1, v2, v3, v4, v5, v6] (.int (x + y) :: st) h 0 0) := (amWp_dec rfl dX6_item_48 rfl).trans rfl
theorem wX6_item_49 {ret F n h} {v0 v1 v3 v4 v5 v6 st x} : eX6_item ret F (n + 1) 49 [v0, v1, .int x, v3, v4, v5, v6] (st) h 0 0 = (eX6_item ret F n 50 [v0, v1, .int x, v3, v4, v5, v6] (.int x :: st) h 0 0) := (amWp_dec rfl dX6_item_49 rfl).trans rfl
theorem wX6_item_50 {ret F n h} {v0 v1 v2 v3 v5 v6 st y} : eX6_item ret F (n + 1) 50 [v0, v1, v2, v3, .long y, v5, v6] (st) h 0 0 = (eX6_item ret F n 52 [v0, v1, v2, v3, .long y, v5, v6] (.long y :: st) h 0 0) := (amWp_dec rfl dX6_item_50 rfl).trans rfl
theorem wX6_item_52 {ret F n h} {v0 v1 v2 v3 v4 v5 v6 x1 x0 r0 r1} : eX6_item ret F (n + 1) 52 [v0, v1, v2, v3, v4, v5, v6] (.long x1 :: .int x0 :: r0 :: r1 :: []) h 0 0 = (tX6_cut [.int x0, .long x1] h (fun v h => eX6_item ret F n 55 [v0, v1, v2, v3, v4, v5, v6] (v.toList ++ (r0 :: r1 :: [])) h 0 0)) := (amWp_dec rfl dX6_item_52 rfl).trans (amS4 (Nat.le_of_ble_eq_true rfl) (Nat.le_of_ble_eq_true rfl) (Nat.le_of_ble_eq_true rfl) (Nat.le_of_ble_eq_true rfl))
theorem wX6_item_55 {ret F n h} {v0 v1 v2 v3 v4 v5 v6 st y x a} : eX6_item ret F (n + 1) 55 [v0, v1, v2, v3, v4, v5, v6] (.long y :: .int x :: .ref a :: st) h 0 0 = ((h.1 a).1 = 5 ∧ vp_in x (h.1 a).2 ∧ amN0 ≤ a ∧ eX6_item ret F n 56 [v0, v1, v2, v3, v4, v5, v6] (st) (amWr h a x.toNatClampNeg (.long y)) 0 0) := (amWp_dec rfl dX6_item_55 rfl).trans rfl
theorem wX6_item_56 {ret F n h} {v0 v1 v2 v3 v4 v5 v6 st} : eX6_item ret F (n + 1) 56 [v0, v1, v2, v3, v4, v5, v6] (st) h 0 0 = (eX6_item ret F n 57 [v0, v1, v2, v3, v4, v5, v6] (.int (nI 1) :: st) h 0 0) := (amWp_dec rfl dX6_item_56 rfl).trans rfl
theorem wX6_item_57 {ret F n h} {v0 v1 v2 v3 v4 v5 v6 x} : eX6_item ret F (n + 1) 57 [v0, v1, v2, v3, v4, v5, v6] ([.int x]) h 0 0 = (ret (some (.int x)) h 0 0) := (amWp_dec rfl dX6_item_57 rfl).trans (amTrue ⟨_, rfl, rfl⟩)
theorem evX6_item (l : Launch) (G : amG) : ∀ pc S i sz, amLk rX6_item pc = some S → decode cX6_item pc = .ok (i, sz) → amSiteP pc G l yX6_item.cls yX6_item.name yX6_item.desc (amRm 3 0 0) i sz S.1 S.2.1 S.2.2.1 S.2.2.2 := amLk_ok (by
  refine List.forall_mem_cons.mpr ⟨⟨_, _, dX6_item_1, amSite.P (amSiteS (metX6_isSheet l G) rfl (by decide) (by decide) (lw_S q1685 q1686 q94 q1687) ⟨by decide +kernel, by decide +kernel, by decide +kernel⟩)⟩, ?_⟩
  refine List.forall_mem_cons.mpr ⟨⟨_, _, dX6_item_10, amSite.P (amSiteLdc2 q1688)⟩, ?_⟩
  refine List.forall_mem_cons.mpr ⟨⟨_, _, dX6_item_13, amSite.P (amSiteS (metX6_in l G) rfl (by decide) (by decide) (lw_S q1381 q1382 q94 q1383) ⟨by decide +kernel, by decide +kernel, by decide +kernel⟩)⟩, ?_⟩
  refine List.forall_mem_cons.mpr ⟨⟨_, _, dX6_item_26, amSite.P (amSiteV (C := RX6) (metX6_found l G) rfl (by decide) (by decide) (lw_V q1689 q1691 qs84 q94 q1692) ⟨_, rfl, rfl⟩ ⟨rfl, by decide +kernel, by decide +kernel, by decide +kernel⟩)⟩, ?_⟩
  refine List.forall_mem_cons.mpr ⟨⟨_, _, dX6_item_40, amSite.P (amSiteGet ⟨_, rfl, by decide, Or.inl q1305⟩)⟩, ?_⟩
  refine List.forall_mem_cons.mpr ⟨⟨_, _, dX6_item_52, amSite.P (amSiteS (metX6_cut l G) rfl (by decide) (by decide) (lw_S q1709 q1710 q94 q1711) ⟨by decide +kernel, by decide +kernel, by decide +kernel⟩)⟩, ?_⟩
  exact fun _ h => absurd h List.not_mem_nil)
theorem goX6_item {ret F} (hF : amCld cX6_item kX6_item (amLk rX6_item) (some .int) 0 0 ret F) (n : Nat) {pc ls st h k z} (q : sX6_item ret F n pc ls st h k z) : F pc ls st h k z := hF.1 n pc ls st h k z q
theorem metX6_item (l : Launch) (G : amG) : amMet l G yX6_item (ws_ yX6_item cX6_item 7 (some .int)) 3 0 0 tX6_item := by
  refine amMet_of (cut := kX6_item) (by decide +kernel) (evX6_item l G) ?_
  intro as h K hT
  match as, hT with
  | [.ref t, .int s0, .int lane, .int i, .long v], ⟨X, e1, w, hK⟩ =>
  refine ⟨Nat.le_of_ble_eq_true rfl, fun F hF => ?_⟩
  show F 0 [.ref t, .int s0, .int lane, .int i, .long v, .retAddr 0, .retAddr 0] [] h 0 0
  obtain ⟨t, rfl⟩ : ∃ i : Nat, i = t := ⟨_, rfl⟩
  subst e1
  have hR := w.1
  have hsh := w.2.2.2.2.2
  have key0 : ∀ c, itemR X s0 lane i v = (X, c) → amRet 0 0 K (some (.int c)) h 0 0 := fun c e => by
    rw [e] at hK
    exact amRet.of (by decide) (by decide) (hK h (msFr.rf h) w)
  by_cases q1 : lN 0 ≤ s0.toInt64 ∧ s0.toInt64 ≤ lN 3
  · by_cases q2 : lN 0 ≤ lane.toInt64 ∧ lane.toInt64 ≤ lN 3
    · have ok : okS s0 lane := ⟨q1, q2⟩
      obtain ⟨s, s4, rfl⟩ := in3.mp q1
      have ec : (nI s).toNatClampNeg = s := amCl_nI (by omega)
      by_cases c : lackR (X.2.2.2.2 s) lane i 1 < 0
      · have := key0 _ (by rw [itemR, if_neg (fun z => z ok), ec, if_pos c])
        have c' : (0 ≤ lackR (X.2.2.2.2 s) lane i 1) = False := eq_false (by rw [Int32.not_le]; exact c)
        refine goX6_item hF 60 ?_
        simp (disch := omega) only [wX6_item_0, uX6_item_0, wX6_item_1, wX6_item_4, wX6_item_7, wX6_item_8, wX6_item_9, wX6_item_10, wX6_item_13, wX6_item_16, wX6_item_19, wX6_item_20, wX6_item_21, wX6_item_22, wX6_item_23, wX6_item_24, wX6_item_25, wX6_item_26, wX6_item_29, wX6_item_31, wX6_item_33, wX6_item_36, wX6_item_38, wX6_item_39, wX6_item_40, wX6_item_43, wX6_item_45, wX6_item_46, wX6_item_47, wX6_item_48, wX6_item_49, wX6_item_50, wX6_item_52, wX6_item_55, wX6_item_56, wX6_item_57, amSI_1, amSI_2, amSI_3, amSI_s, amU_at, amIsR_ref, amIsR_null, amIsR_rf, amRf_some, amRf_none, amClr_int, amClr_ref, amClr_null, amClr_long, amClr_ra, amClr_rf, amFit_int, amFit_oref, amFit_aref, amFit_onull, amFit_anull, amOptSome, amOptNone, List.cons_append, List.nil_append, true_and, and_true, true_implies, not_true_eq_false, not_false_eq_true, false_implies, and_self, Nat.add_zero, Nat.zero_add, ne_eq, Prod.mk.injEq, amC01_0, amC01_1, amC01_nb, amNb0, amNb1, amTcpI_d, Nat.reduceLeDiff, Nat.reduceAdd, Nat.reduceSub, Nat.reduceEqDiff, Nat.le_refl, amN0le, hR.s, hR.r, tX6_isSheet_d, tX6_in_d, q1, q2, tX6_found_d]
        refine ⟨X.2.2.2.2, s, 1, hR, hsh, rfl, s4, rfl, by decide, ?_⟩
        simp (disch := omega) only [wX6_item_0, uX6_item_0, wX6_item_1, wX6_item_4, wX6_item_7, wX6_item_8, wX6_item_9, wX6_item_10, wX6_item_13, wX6_item_16, wX6_item_19, wX6_item_20, wX6_item_21, wX6_item_22, wX6_item_23, wX6_item_24, wX6_item_25, wX6_item_26, wX6_item_29, wX6_item_31, wX6_item_33, wX6_item_36, wX6_item_38, wX6_item_39, wX6_item_40, wX6_item_43, wX6_item_45, wX6_item_46, wX6_item_47, wX6_item_48, wX6_item_49, wX6_item_50, wX6_item_52, wX6_item_55, wX6_item_56, wX6_item_57, amSI_1, amSI_2, amSI_3, amSI_s, amU_at, amIsR_ref, amIsR_null, amIsR_rf, amRf_some, amRf_none, amClr_int, amClr_ref, amClr_null, amClr_long, amClr_ra, amClr_rf, amFit_int, amFit_oref, amFit_aref, amFit_onull, amFit_anull, amOptSome, amOptNone, List.cons_append, List.nil_append, true_and, and_true, true_implies, not_true_eq_false, not_false_eq_true, false_implies, and_self, Nat.add_zero, Nat.zero_add, ne_eq, Prod.mk.injEq, amC01_0, amC01_1, amC01_nb, amNb0, amNb1, amTcpI_d, Nat.reduceLeDiff, Nat.reduceAdd, Nat.reduceSub, Nat.reduceEqDiff, Nat.le_refl, amN0le, hR.s, hR.r, c']
        exact this
      · rw [itemR, if_neg (fun z => z ok), ec, if_neg c] at hK
        obtain ⟨l0, k, vs, j, eo, rfl, rfl, j31, jl⟩ := lack_ok c
        rw [eo] at hK l0
        have hs := hsh s s4
        rw [eo] at hs
        obtain ⟨k4, v24, t1, t2, t3⟩ := hs
        replace hK : ∀ h', msFr h h' → MdW h' (X.setSh s (some (k, vs.set (nI j).toNatClampNeg (cutL k v)))) → K (some (.int (nI 1))) h' := hK
        rw [amCl_nI j31] at hK
        have n00 : (0 ≤ nI 0) = True := eq_true (by decide)
        obtain ⟨g1, g2⟩ := w.sh (m := h.2.1) (L := amUL h.2.2.1 132 (24 * s + j) (cutL k v)) (fun _ _ _ _ => rfl) (fun i a1 a2 => amUL_ne a1) (hsh.set (s := s) (o := some (k, vs.set j (cutL k v))) ⟨k4, by rw [List.length_set]; exact v24, t1, by rw [List.length_set]; exact t2, fun p hp => by
          rw [List.length_set] at hp
          rw [setI_getD (by omega)]
          by_cases y : p = j
          · subst y
            rw [if_pos rfl, amUL_at]
          · rw [if_neg y, amUL_nj (by omega)]
            exact t3 p hp⟩ (fun _ _ => rfl) (fun _ _ => rfl) (fun t ht h4 p hp => amUL_nj (by omega)))
        have key := hK _ g1 g2
        have ml : nI 24 * nI s = nI (24 * s) := amMul _ _
        refine goX6_item hF 60 ?_
        simp (disch := omega) only [wX6_item_0, uX6_item_0, wX6_item_1, wX6_item_4, wX6_item_7, wX6_item_8, wX6_item_9, wX6_item_10, wX6_item_13, wX6_item_16, wX6_item_19, wX6_item_20, wX6_item_21, wX6_item_22, wX6_item_23, wX6_item_24, wX6_item_25, wX6_item_26, wX6_item_29, wX6_item_31, wX6_item_33, wX6_item_36, wX6_item_38, wX6_item_39, wX6_item_40, wX6_item_43, wX6_item_45, wX6_item_46, wX6_item_47, wX6_item_48, wX6_item_49, wX6_item_50, wX6_item_52, wX6_item_55, wX6_item_56, wX6_item_57, amSI_1, amSI_2, amSI_3, amSI_s, amU_at, amIsR_ref, amIsR_null, amIsR_rf, amRf_some, amRf_none, amClr_int, amClr_ref, amClr_null, amClr_long, amClr_ra, amClr_rf, amFit_int, amFit_oref, amFit_aref, amFit_onull, amFit_anull, amOptSome, amOptNone, List.cons_append, List.nil_append, true_and, and_true, true_implies, not_true_eq_false, not_false_eq_true, false_implies, and_self, Nat.add_zero, Nat.zero_add, ne_eq, Prod.mk.injEq, amC01_0, amC01_1, amC01_nb, amNb0, amNb1, amTcpI_d, Nat.reduceLeDiff, Nat.reduceAdd, Nat.reduceSub, Nat.reduceEqDiff, Nat.le_refl, amN0le, hR.s, hR.r, tX6_isSheet_d, tX6_in_d, q1, q2, tX6_found_d]
        refine ⟨X.2.2.2.2, s, 1, hR, hsh, rfl, s4, rfl, by decide, ?_⟩
        rw [eo, l0]
        simp (disch := omega) only [wX6_item_0, uX6_item_0, wX6_item_1, wX6_item_4, wX6_item_7, wX6_item_8, wX6_item_9, wX6_item_10, wX6_item_13, wX6_item_16, wX6_item_19, wX6_item_20, wX6_item_21, wX6_item_22, wX6_item_23, wX6_item_24, wX6_item_25, wX6_item_26, wX6_item_29, wX6_item_31, wX6_item_33, wX6_item_36, wX6_item_38, wX6_item_39, wX6_item_40, wX6_item_43, wX6_item_45, wX6_item_46, wX6_item_47, wX6_item_48, wX6_item_49, wX6_item_50, wX6_item_52, wX6_item_55, wX6_item_56, wX6_item_57, amSI_1, amSI_2, amSI_3, amSI_s, amU_at, amIsR_ref, amIsR_null, amIsR_rf, amRf_some, amRf_none, amClr_int, amClr_ref, amClr_null, amClr_long, amClr_ra, amClr_rf, amFit_int, amFit_oref, amFit_aref, amFit_onull, amFit_anull, amOptSome, amOptNone, List.cons_append, List.nil_append, true_and, and_true, true_implies, not_true_eq_false, not_false_eq_true, false_implies, and_self, Nat.add_zero, Nat.zero_add, ne_eq, Prod.mk.injEq, amC01_0, amC01_1, amC01_nb, amNb0, amNb1, amTcpI_d, Nat.reduceLeDiff, Nat.reduceAdd, Nat.reduceSub, Nat.reduceEqDiff, Nat.le_refl, amN0le, hR.s, hR.r, n00, ml, amAdd, tX6_cut_d]
        refine ⟨k, rfl, k4, ?_⟩
        simp (disch := omega) only [wX6_item_0, uX6_item_0, wX6_item_1, wX6_item_4, wX6_item_7, wX6_item_8, wX6_item_9, wX6_item_10, wX6_item_13, wX6_item_16, wX6_item_19, wX6_item_20, wX6_item_21, wX6_item_22, wX6_item_23, wX6_item_24, wX6_item_25, wX6_item_26, wX6_item_29, wX6_item_31, wX6_item_33, wX6_item_36, wX6_item_38, wX6_item_39, wX6_item_40, wX6_item_43, wX6_item_45, wX6_item_46, wX6_item_47, wX6_item_48, wX6_item_49, wX6_item_50, wX6_item_52, wX6_item_55, wX6_item_56, wX6_item_57, amSI_1, amSI_2, amSI_3, amSI_s, amU_at, amIsR_ref, amIsR_null, amIsR_rf, amRf_some, amRf_none, amClr_int, amClr_ref, amClr_null, amClr_long, amClr_ra, amClr_rf, amFit_int, amFit_oref, amFit_aref, amFit_onull, amFit_anull, amOptSome, amOptNone, List.cons_append, List.nil_append, true_and, and_true, true_implies, not_true_eq_false, not_false_eq_true, false_implies, and_self, Nat.add_zero, Nat.zero_add, ne_eq, Prod.mk.injEq, amC01_0, amC01_1, amC01_nb, amNb0, amNb1, amTcpI_d, Nat.reduceLeDiff, Nat.reduceAdd, Nat.reduceSub, Nat.reduceEqDiff, Nat.le_refl, amN0le, hR.s, hR.r, amVI, amCl_nI, amWrL]
        exact amRet.of (by decide) (by decide) key
    · have := key0 (-1) (by rw [itemR, if_pos (fun z => q2 z.2)])
      refine goX6_item hF 60 ?_
      simp (disch := omega) only [wX6_item_0, uX6_item_0, wX6_item_1, wX6_item_4, wX6_item_7, wX6_item_8, wX6_item_9, wX6_item_10, wX6_item_13, wX6_item_16, wX6_item_19, wX6_item_20, wX6_item_21, wX6_item_22, wX6_item_23, wX6_item_24, wX6_item_25, wX6_item_26, wX6_item_29, wX6_item_31, wX6_item_33, wX6_item_36, wX6_item_38, wX6_item_39, wX6_item_40, wX6_item_43, wX6_item_45, wX6_item_46, wX6_item_47, wX6_item_48, wX6_item_49, wX6_item_50, wX6_item_52, wX6_item_55, wX6_item_56, wX6_item_57, amSI_1, amSI_2, amSI_3, amSI_s, amU_at, amIsR_ref, amIsR_null, amIsR_rf, amRf_some, amRf_none, amClr_int, amClr_ref, amClr_null, amClr_long, amClr_ra, amClr_rf, amFit_int, amFit_oref, amFit_aref, amFit_onull, amFit_anull, amOptSome, amOptNone, List.cons_append, List.nil_append, true_and, and_true, true_implies, not_true_eq_false, not_false_eq_true, false_implies, and_self, Nat.add_zero, Nat.zero_add, ne_eq, Prod.mk.injEq, amC01_0, amC01_1, amC01_nb, amNb0, amNb1, amTcpI_d, Nat.reduceLeDiff, Nat.reduceAdd, Nat.reduceSub, Nat.reduceEqDiff, Nat.le_refl, amN0le, hR.s, hR.r, tX6_isSheet_d, tX6_in_d, q1, q2]
      exact this
  · have := key0 (-1) (by rw [itemR, if_pos (fun z => q1 z.1)])
    refine goX6_item hF 60 ?_
    simp (disch := omega) only [wX6_item_0, uX6_item_0, wX6_item_1, wX6_item_4, wX6_item_7, wX6_item_8, wX6_item_9, wX6_item_10, wX6_item_13, wX6_item_16, wX6_item_19, wX6_item_20, wX6_item_21, wX6_item_22, wX6_item_23, wX6_item_24, wX6_item_25, wX6_item_26, wX6_item_29, wX6_item_31, wX6_item_33, wX6_item_36, wX6_item_38, wX6_item_39, wX6_item_40, wX6_item_43, wX6_item_45, wX6_item_46, wX6_item_47, wX6_item_48, wX6_item_49, wX6_item_50, wX6_item_52, wX6_item_55, wX6_item_56, wX6_item_57, amSI_1, amSI_2, amSI_3, amSI_s, amU_at, amIsR_ref, amIsR_null, amIsR_rf, amRf_some, amRf_none, amClr_int, amClr_ref, amClr_null, amClr_long, amClr_ra, amClr_rf, amFit_int, amFit_oref, amFit_aref, amFit_onull, amFit_anull, amOptSome, amOptNone, List.cons_append, List.nil_append, true_and, and_true, true_implies, not_true_eq_false, not_false_eq_true, false_implies, and_self, Nat.add_zero, Nat.zero_add, ne_eq, Prod.mk.injEq, amC01_0, amC01_1, amC01_nb, amNb0, amNb1, amTcpI_d, Nat.reduceLeDiff, Nat.reduceAdd, Nat.reduceSub, Nat.reduceEqDiff, Nat.le_refl, amN0le, hR.s, hR.r, tX6_isSheet_d, q1]
    exact this
theorem tX6_item_d {t : Nat} {s0 lane i : Int32} {v : Int64} {h : amH} {K : Option Value → amH → Prop} : tX6_item [.ref t, .int s0, .int lane, .int i, .long v] h K = ∃ X : XS, t = (124 : Nat) ∧ MdW h X ∧ ∀ h', msFr h h' → MdW h' (itemR X s0 lane i v).1 → K (some (.int (itemR X s0 lane i v).2)) h' := rfl
