/-! the system's sheets: isSheet, lacks, drop -/
set_option maxRecDepth 100000
theorem ShIs1.mv2 {h h' : amH} {s : Nat} {v : Option (Nat × List Int64)} (q : ShIs1 h s v) (hr : h'.2.2.2.1 (57 + s) 0 = h.2.2.2.1 (57 + s) 0) (hn : h.2.2.2.2 ≤ h'.2.2.2.2) (hs : ∀ i, h.2.2.2.1 (57 + s) 0 = some i → i < h.2.2.2.2 → h'.1 i = h.1 i ∧ h'.2.1 i = h.2.1 i ∧ h'.2.2.1 i = h.2.2.1 i) : ShIs1 h' s v := by
  cases v with
  | none => show _ = _; rw [hr]; exact q
  | some w =>
    obtain ⟨k, vs⟩ := w
    obtain ⟨q1, q2, i, q3, q4, q5, q6, q7⟩ := q
    obtain ⟨e1, e2, e3⟩ := hs i q5 q4
    refine ⟨q1, q2, i, q3, by omega, by rw [hr]; exact q5, by rw [e1]; exact q6, fun p hp => ?_⟩
    rw [e2, e3]
    exact q7 p hp
/-- one sheet changed -/
theorem ShIs.put {h h' : amH} {sh : Nat → Option (Nat × List Int64)} (q : ShIs h sh) {s : Nat} {o : Option (Nat × List Int64)} (hs : ShIs1 h' s o) (hr : ∀ t, t < 4 → t ≠ s → h'.2.2.2.1 (57 + t) 0 = h.2.2.2.1 (57 + t) 0) (hn : h.2.2.2.2 ≤ h'.2.2.2.2)
    (hc : ∀ t i, t < 4 → t ≠ s → h.2.2.2.1 (57 + t) 0 = some i → i < h.2.2.2.2 → h'.1 i = h.1 i ∧ h'.2.1 i = h.2.1 i ∧ h'.2.2.1 i = h.2.2.1 i) (hd : ∀ t i, t < 4 → t ≠ s → h.2.2.2.1 (57 + t) 0 = some i → h'.2.2.2.1 (57 + s) 0 ≠ some i) : ShIs h' (setS sh s o) := by
  refine ⟨fun t ht => ?_, fun t u i ht hu h1 h2 => ?_⟩
  · unfold setS
    by_cases e : t = s
    · rw [if_pos e, e]; exact hs
    · rw [if_neg e]
      exact (q.1 t ht).mv2 (hr t ht e) hn (fun i h1 h2 => hc t i ht e h1 h2)
  · by_cases e : t = s
    · by_cases e2 : u = s
      · rw [e, e2]
      · rw [hr u hu e2] at h2
        rw [e] at h1
        exact absurd h1 (hd u i hu e2 h2)
    · rw [hr t ht e] at h1
      by_cases e2 : u = s
      · rw [e2] at h2
        exact absurd h2 (hd t i ht e h1)
      · rw [hr u hu e2] at h2
        exact q.2 t u i ht hu h1 h2
/-- the sheets changed, nothing else -/
theorem RsW.shw {h h' : amH} {X : XS} (w : RsW h X) (e1 : ∀ i : Nat, i < 143 → h'.1 i = h.1 i) (e2 : ∀ i : Nat, i < 143 → h'.2.1 i = h.2.1 i) (e3 : ∀ i : Nat, i < 143 → h'.2.2.1 i = h.2.2.1 i) (e4 : ∀ i : Nat, i < 143 → (i < 57 ∨ 61 ≤ i) → h'.2.2.2.1 i = h.2.2.2.1 i) (en : h.2.2.2.2 ≤ h'.2.2.2.2) {sh : Nat → Option (Nat × List Int64)} (hs : ShIs h' sh) : rsFr h h' ∧ RsW h' (X.1, X.2.1, X.2.2.1, X.2.2.2.1, sh) := by
  obtain ⟨⟨w1, w2, w3, w4⟩, w5, w6, w7, w8, w9, w10, w11⟩ := w
  refine ⟨⟨en, fun i h1 h2 => ⟨e1 i h2, e2 i h2, e3 i h2, e4 i h2 (by omega)⟩⟩, ⟨w1.mv (fun i hi => e1 i (by omega)) (fun i hi _ _ h57 => e4 i (by omega) h57), w2.kept (fun i h1 h2 => e2 i (by omega)), w3, by omega⟩, fun j hj => ⟨(w5 j hj).1.mv (fun i h1 h2 => ⟨e1 i (by omega), e4 i (by omega) (by omega)⟩), (w5 j hj).2.mv (fun i h1 h2 => ⟨e1 i (by omega), e4 i (by omega) (by omega)⟩)⟩, fun k hk => by rw [e4 55 (by omega) (by omega)]; exact w6 k hk, w7.mv (by rw [e2 24 (by omega)]) (e4 41 (by omega) (by omega)) (fun i hi => e2 i (by unfold pastC at hi; omega)), w8, ?_, w10.mv (e2 43 (by omega)) (e2 44 (by omega)), hs⟩
  show KpIs h'.2.1 X.2.2.1
  cases hc : X.2.2.1 with
  | none =>
    rw [hc] at w9
    show h'.2.1 24 23 = nI 0
    rw [e2 24 (by omega)]; exact w9
  | some v =>
    obtain ⟨S, U⟩ := v
    rw [hc] at w9
    obtain ⟨q1, q2, q3, q4, q5, q6, q7⟩ := w9
    refine ⟨?_, ?_, q3, q4, ?_, fun k hk => ?_, q7⟩
    · rw [e2 24 (by omega)]; exact q1
    · exact q2.kept (fun i h1 h2 => e2 i (by omega))
    · rw [e2 24 (by omega)]; exact q5
    · exact (q6 k hk).kept (fun i h1 h2 => e2 i (by omega))
theorem amMore_1 {h : amH} {d i : Nat} (hi : i < h.2.2.2.2) : (amMore h d).1 i = h.1 i := if_neg (by omega)
/-- cells more -/
theorem RsW.more {h : amH} {X : XS} (w : RsW h X) (d : Nat) : rsFr h (amMore h d) ∧ RsW (amMore h d) X := by
  have wn := w.1.2.2.2
  exact w.shw (sh := X.2.2.2.2) (fun i hi => amMore_1 (by omega)) (fun _ _ => rfl) (fun _ _ => rfl) (fun _ _ _ => rfl) (Nat.le_add_right _ _) ⟨fun s hs => (w.2.2.2.2.2.2.2.1 s hs).mv2 rfl (Nat.le_add_right _ _) (fun i _ hi => ⟨amMore_1 hi, rfl, rfl⟩), w.2.2.2.2.2.2.2.2⟩
theorem rsAt.sheet {h : amH} (q : rsAt h) {s : Nat} (hs : s < 4) : h.1 24 = (0, 0) ∧ h.2.2.2.1 24 24 = some 56 ∧ h.1 56 = (8, 4) ∧ h.2.2.2.1 56 s = some (57 + s) ∧ h.1 (57 + s) = (0, 5) := by
  have a := q.s
  have b := q.r
  match s, hs with
  | 0, _ => simp only [a, b, and_self, Nat.reduceAdd]
  | 1, _ => simp only [a, b, and_self, Nat.reduceAdd]
  | 2, _ => simp only [a, b, and_self, Nat.reduceAdd]
  | 3, _ => simp only [a, b, and_self, Nat.reduceAdd]
theorem laneKA {k : Nat} (h : k < 4) : amAr (laneK k) ∧ laneOf (laneK k) = k := by
  match k, h with
  | 0, _ => decide
  | 1, _ => decide
  | 2, _ => decide
  | 3, _ => decide
theorem laneK_inj {k j : Nat} (hk : k < 4) (hj : j < 4) (h : laneK k = laneK j) : k = j := by
  have h1 := (laneKA hk).2
  rw [h, (laneKA hj).2] at h1
  exact h1.symm
def tX0_isSheet : amT := fun as h K => match as with
  | [.int s, .int lane] => K (some (.int (amC01 (okS s lane)))) h
  | _ => False
/-! ReadingStages.isSheet(II)Z -/
def kX0_isSheet : Nat → Bool := fun pc => false
def rX0_isSheet : List (Nat × amS) := [(3, 0, 0, 0, amTcon (.long (3))), (6, 3, 0, 0, tX0_isIn), (15, 0, 0, 0, amTcon (.long (3))), (18, 3, 0, 0, tX0_isIn)]
def eX0_isSheet (ret : Option Value → amH → Nat → Nat → Prop) (F : amX) : Nat → amX := amWp cX0_isSheet kX0_isSheet (amLk rX0_isSheet) (some .boolean) 0 0 ret F
def sX0_isSheet (ret : Option Value → amH → Nat → Nat → Prop) (F : amX) : Nat → amX := amWs cX0_isSheet kX0_isSheet (amLk rX0_isSheet) (some .boolean) 0 0 ret F
theorem wX0_isSheet_0 {ret F n h} {v1 st x} : eX0_isSheet ret F (n + 1) 0 [.int x, v1] (st) h 0 0 = (eX0_isSheet ret F n 1 [.int x, v1] (.int x :: st) h 0 0) := (amWp_dec rfl dX0_isSheet_0 rfl).trans rfl
theorem uX0_isSheet_0 {ret F n h} {v1 st x} : sX0_isSheet ret F n 0 [.int x, v1] (st) h 0 0 = (eX0_isSheet ret F n 1 [.int x, v1] (.int x :: st) h 0 0) := (amWs_dec dX0_isSheet_0 rfl).trans rfl
theorem wX0_isSheet_1 {ret F n h} {v0 v1 st x} : eX0_isSheet ret F (n + 1) 1 [v0, v1] (.int x :: st) h 0 0 = (eX0_isSheet ret F n 2 [v0, v1] (.long x.toInt64 :: st) h 0 0) := (amWp_dec rfl dX0_isSheet_1 rfl).trans rfl
theorem wX0_isSheet_2 {ret F n h} {v0 v1 st} : eX0_isSheet ret F (n + 1) 2 [v0, v1] (st) h 0 0 = (eX0_isSheet ret F n 3 [v0, v1] (.long (lN 0) :: st) h 0 0) := (amWp_dec rfl dX0_isSheet_2 rfl).trans rfl
theorem wX0_isSheet_3 {ret F n h} {v0 v1 r0 r1} : eX0_isSheet ret F (n + 1) 3 [v0, v1] (r0 :: r1 :: []) h 0 0 = (eX0_isSheet ret F n 6 [v0, v1] (.long (lN 3) :: r0 :: r1 :: []) h 0 0) := (amWp_dec rfl dX0_isSheet_3 rfl).trans (amS4 (Nat.le_of_ble_eq_true rfl) (Nat.le_of_ble_eq_true rfl) (Nat.le_of_ble_eq_true rfl) (Nat.le_of_ble_eq_true rfl))
theorem wX0_isSheet_6 {ret F n h} {v0 v1 x2 x1 x0} : eX0_isSheet ret F (n + 1) 6 [v0, v1] (.long x2 :: .long x1 :: .long x0 :: []) h 0 0 = (tX0_isIn [.long x0, .long x1, .long x2] h (fun v h => eX0_isSheet ret F n 9 [v0, v1] (v.toList ++ ([])) h 0 0)) := (amWp_dec rfl dX0_isSheet_6 rfl).trans (amS4 (Nat.le_of_ble_eq_true rfl) (Nat.le_of_ble_eq_true rfl) (Nat.le_of_ble_eq_true rfl) (Nat.le_of_ble_eq_true rfl))
theorem wX0_isSheet_9 {ret F n h} {v0 v1 st x} : eX0_isSheet ret F (n + 1) 9 [v0, v1] (.int x :: st) h 0 0 = ((x = 0 → eX0_isSheet ret F n 28 [v0, v1] (st) h 0 0) ∧ (¬ x = 0 → eX0_isSheet ret F n 12 [v0, v1] (st) h 0 0)) := (amWp_dec rfl dX0_isSheet_9 rfl).trans rfl
theorem wX0_isSheet_12 {ret F n h} {v0 st x} : eX0_isSheet ret F (n + 1) 12 [v0, .int x] (st) h 0 0 = (eX0_isSheet ret F n 13 [v0, .int x] (.int x :: st) h 0 0) := (amWp_dec rfl dX0_isSheet_12 rfl).trans rfl
theorem wX0_isSheet_13 {ret F n h} {v0 v1 st x} : eX0_isSheet ret F (n + 1) 13 [v0, v1] (.int x :: st) h 0 0 = (eX0_isSheet ret F n 14 [v0, v1] (.long x.toInt64 :: st) h 0 0) := (amWp_dec rfl dX0_isSheet_13 rfl).trans rfl
theorem wX0_isSheet_14 {ret F n h} {v0 v1 st} : eX0_isSheet ret F (n + 1) 14 [v0, v1] (st) h 0 0 = (eX0_isSheet ret F n 15 [v0, v1] (.long (lN 0) :: st) h 0 0) := (amWp_dec rfl dX0_isSheet_14 rfl).trans rfl
theorem wX0_isSheet_15 {ret F n h} {v0 v1 r0 r1} : eX0_isSheet ret F (n + 1) 15 [v0, v1] (r0 :: r1 :: []) h 0 0 = (eX0_isSheet ret F n 18 [v0, v1] (.long (lN 3) :: r0 :: r1 :: []) h 0 0) := (amWp_dec rfl dX0_isSheet_15 rfl).trans (amS4 (Nat.le_of_ble_eq_true rfl) (Nat.le_of_ble_eq_true rfl) (Nat.le_of_ble_eq_true rfl) (Nat.le_of_ble_eq_true rfl))
theorem wX0_isSheet_18 {ret F n h} {v0 v1 x2 x1 x0} : eX0_isSheet ret F (n + 1) 18 [v0, v1] (.long x2 :: .long x1 :: .long x0 :: []) h 0 0 = (tX0_isIn [.long x0, .long x1, .long x2] h (fun v h => eX0_isSheet ret F n 21 [v0, v1] (v.toList ++ ([])) h 0 0)) := (amWp_dec rfl dX0_isSheet_18 rfl).trans (amS4 (Nat.le_of_ble_eq_true rfl) (Nat.le_of_ble_eq_true rfl) (Nat.le_of_ble_eq_true rfl) (Nat.le_of_ble_eq_true rfl))
theorem wX0_isSheet_21 {ret F n h} {v0 v1 st x} : eX0_isSheet ret F (n + 1) 21 [v0, v1] (.int x :: st) h 0 0 = ((x = 0 → eX0_isSheet ret F n 28 [v0, v1] (st) h 0 0) ∧ (¬ x = 0 → eX0_isSheet ret F n 24 [v0, v1] (st) h 0 0)) := (amWp_dec rfl dX0_isSheet_21 rfl).trans rfl
theorem wX0_isSheet_24 {ret F n h} {v0 v1 st} : eX0_isSheet ret F (n + 1) 24 [v0, v1] (st) h 0 0 = (eX0_isSheet ret F n 25 [v0, v1] (.int (nI 1) :: st) h 0 0) := (amWp_dec rfl dX0_isSheet_24 rfl).trans rfl
theorem wX0_isSheet_25 {ret F n h} {v0 v1 st} : eX0_isSheet ret F (n + 1) 25 [v0, v1] (st) h 0 0 = (eX0_isSheet ret F n 29 [v0, v1] (st) h 0 0) := (amWp_dec rfl dX0_isSheet_25 rfl).trans rfl
theorem wX0_isSheet_28 {ret F n h} {v0 v1 st} : eX0_isSheet ret F (n + 1) 28 [v0, v1] (st) h 0 0 = (eX0_isSheet ret F n 29 [v0, v1] (.int (nI 0) :: st) h 0 0) := (amWp_dec rfl dX0_isSheet_28 rfl).trans rfl
theorem wX0_isSheet_29 {ret F n h} {v0 v1 x} : eX0_isSheet ret F (n + 1) 29 [v0, v1] ([.int x]) h 0 0 = (narrow .boolean (.int x) = .int x ∧ ret (some (.int x)) h 0 0) := (amWp_dec rfl dX0_isSheet_29 rfl).trans (amRetTy)
theorem evX0_isSheet (l : Launch) (G : amG) : ∀ pc S i sz, amLk rX0_isSheet pc = some S → decode cX0_isSheet pc = .ok (i, sz) → amSiteP pc G l yX0_isSheet.cls yX0_isSheet.name yX0_isSheet.desc (amRm 2 0 0) i sz S.1 S.2.1 S.2.2.1 S.2.2.2 := amLk_ok (by
  refine List.forall_mem_cons.mpr ⟨⟨_, _, dX0_isSheet_3, amSite.P (amSiteLdc2 q1160)⟩, ?_⟩
  refine List.forall_mem_cons.mpr ⟨⟨_, _, dX0_isSheet_6, amSite.P (amSiteS (metX0_isIn l G) rfl (by decide) (by decide) (lw_S q382 q383 q86 q384) ⟨by decide +kernel, by decide +kernel, by decide +kernel⟩)⟩, ?_⟩
  refine List.forall_mem_cons.mpr ⟨⟨_, _, dX0_isSheet_15, amSite.P (amSiteLdc2 q1160)⟩, ?_⟩
  refine List.forall_mem_cons.mpr ⟨⟨_, _, dX0_isSheet_18, amSite.P (amSiteS (metX0_isIn l G) rfl (by decide) (by decide) (lw_S q382 q383 q86 q384) ⟨by decide +kernel, by decide +kernel, by decide +kernel⟩)⟩, ?_⟩
  exact fun _ h => absurd h List.not_mem_nil)
theorem goX0_isSheet {ret F} (hF : amCld cX0_isSheet kX0_isSheet (amLk rX0_isSheet) (some .boolean) 0 0 ret F) (n : Nat) {pc ls st h k z} (q : sX0_isSheet ret F n pc ls st h k z) : F pc ls st h k z := hF.1 n pc ls st h k z q
theorem metX0_isSheet (l : Launch) (G : amG) : amMet l G yX0_isSheet (ws_ yX0_isSheet cX0_isSheet 2 (some .boolean)) 2 0 0 tX0_isSheet := by
  refine amMet_of (cut := kX0_isSheet) (by decide +kernel) (evX0_isSheet l G) ?_
  intro as h K hT
  match as, hT with
  | [.int s, .int lane], hK =>
  refine ⟨Nat.le_of_ble_eq_true rfl, fun F hF => ?_⟩
  show F 0 [.int s, .int lane] [] h 0 0
  have hK : K (some (.int (amC01 (okS s lane)))) h := hK
  refine goX0_isSheet hF 30 ?_
  simp (disch := omega) only [wX0_isSheet_0, uX0_isSheet_0, wX0_isSheet_1, wX0_isSheet_2, wX0_isSheet_3, wX0_isSheet_6, wX0_isSheet_9, wX0_isSheet_12, wX0_isSheet_13, wX0_isSheet_14, wX0_isSheet_15, wX0_isSheet_18, wX0_isSheet_21, wX0_isSheet_24, wX0_isSheet_25, wX0_isSheet_28, wX0_isSheet_29, amSI_1, amSI_2, amSI_3, amSI_s, amU_at, amIsR_ref, amIsR_null, amIsR_rf, amRf_some, amRf_none, amClr_int, amClr_ref, amClr_null, amClr_long, amClr_ra, amClr_rf, amFit_int, amFit_oref, amFit_aref, amFit_onull, amFit_anull, amOptSome, amOptNone, List.cons_append, List.nil_append, true_and, and_true, true_implies, not_true_eq_false, not_false_eq_true, false_implies, and_self, Nat.add_zero, Nat.zero_add, ne_eq, Prod.mk.injEq, amC01_0, amC01_1, amC01_nb, amNb0, amNb1, amTcpI_d, Nat.reduceLeDiff, Nat.reduceAdd, Nat.reduceSub, Nat.reduceEqDiff, Nat.le_refl, amN0le, tX0_isIn_d]
  by_cases q1 : lN 0 ≤ s.toInt64 ∧ s.toInt64 ≤ lN 3
  · by_cases q2 : lN 0 ≤ lane.toInt64 ∧ lane.toInt64 ≤ lN 3
    · rw [amC01_t ⟨q1, q2⟩] at hK
      exact ⟨fun z => absurd q1 z, fun _ => ⟨fun z => absurd q2 z, fun _ => amRet.of (by decide) (by decide) hK⟩⟩
    · rw [amC01_f (fun z => q2 z.2)] at hK
      exact ⟨fun z => absurd q1 z, fun _ => ⟨fun _ => amRet.of (by decide) (by decide) hK, fun z => (z q2).elim⟩⟩
  · rw [amC01_f (fun z => q1 z.1)] at hK
    exact ⟨fun _ => amRet.of (by decide) (by decide) hK, fun z => (z q1).elim⟩
theorem tX0_isSheet_d {s lane : Int32} {h : amH} {K : Option Value → amH → Prop} : tX0_isSheet [.int s, .int lane] h K = K (some (.int (amC01 (okS s lane)))) h := rfl
def tX0_lacks : amT := fun as h K => match as with
  | [.ref a, .int s0, .int lane, .int i, .int n0] => ∃ (sh : Nat → Option (Nat × List Int64)) (s n : Nat), a = (24 : Nat) ∧ rsAt h ∧ ShIs h sh ∧ s0 = nI s ∧ s < 4 ∧ n0 = nI n ∧ n ≤ 7 ∧ K (some (.int (lackR (sh s) lane i n))) h
  | _ => False
/-! ReadingStages.lacks(IIII)I -/
def kX0_lacks : Nat → Bool := fun pc => false
def rX0_lacks : List (Nat × amS) := [(1, 1, 0, 0, amTget 0 24), (10, 1, 0, 0, amTget 5 0), (21, 1, 0, 0, (amRecv 5 tX5_lane)), (38, 1, 0, 0, (amRecv 5 tX5_size))]
def eX0_lacks (ret : Option Value → amH → Nat → Nat → Prop) (F : amX) : Nat → amX := amWp cX0_lacks kX0_lacks (amLk rX0_lacks) (some .int) 0 0 ret F
def sX0_lacks (ret : Option Value → amH → Nat → Nat → Prop) (F : amX) : Nat → amX := amWs cX0_lacks kX0_lacks (amLk rX0_lacks) (some .int) 0 0 ret F
theorem wX0_lacks_0 {ret F n h} {v0 v1 v2 v3 v4 v5 st} : eX0_lacks ret F (n + 1) 0 [v0, v1, v2, v3, v4, v5] (st) h 0 0 = (amIsR v0 ∧ eX0_lacks ret F n 1 [v0, v1, v2, v3, v4, v5] (v0 :: st) h 0 0) := (amWp_dec rfl dX0_lacks_0 rfl).trans rfl
theorem uX0_lacks_0 {ret F n h} {v0 v1 v2 v3 v4 v5 st} : sX0_lacks ret F n 0 [v0, v1, v2, v3, v4, v5] (st) h 0 0 = (amIsR v0 ∧ eX0_lacks ret F n 1 [v0, v1, v2, v3, v4, v5] (v0 :: st) h 0 0) := (amWs_dec dX0_lacks_0 rfl).trans rfl
theorem wX0_lacks_1 {ret F n h} {v0 v1 v2 v3 v4 v5 a} : eX0_lacks ret F (n + 1) 1 [v0, v1, v2, v3, v4, v5] (.ref a :: []) h 0 0 = (h.1 a = (0, 0) ∧ eX0_lacks ret F n 4 [v0, v1, v2, v3, v4, v5] (va_rf (h.2.2.2.1 a 24) :: []) h 0 0) := (amWp_dec rfl dX0_lacks_1 rfl).trans (amS4 (Nat.le_of_ble_eq_true rfl) (Nat.le_of_ble_eq_true rfl) (Nat.le_of_ble_eq_true rfl) (Nat.le_of_ble_eq_true rfl))
theorem wX0_lacks_4 {ret F n h} {v0 v2 v3 v4 v5 st x} : eX0_lacks ret F (n + 1) 4 [v0, .int x, v2, v3, v4, v5] (st) h 0 0 = (eX0_lacks ret F n 5 [v0, .int x, v2, v3, v4, v5] (.int x :: st) h 0 0) := (amWp_dec rfl dX0_lacks_4 rfl).trans rfl
theorem wX0_lacks_5 {ret F n h} {v0 v1 v2 v3 v4 v5 st x a} : eX0_lacks ret F (n + 1) 5 [v0, v1, v2, v3, v4, v5] (.int x :: .ref a :: st) h 0 0 = (6 ≤ (h.1 a).1 ∧ (h.1 a).1 ≤ 8 ∧ vp_in x (h.1 a).2 ∧ eX0_lacks ret F n 6 [v0, v1, v2, v3, v4, v5] (va_rf (h.2.2.2.1 a x.toNatClampNeg) :: st) h 0 0) := (amWp_dec rfl dX0_lacks_5 rfl).trans rfl
theorem wX0_lacks_6 {ret F n h} {v0 v1 v2 v3 v4 v5 w st} : eX0_lacks ret F (n + 1) 6 [v0, v1, v2, v3, v4, v5] (w :: st) h 0 0 = (amIsR w ∧ eX0_lacks ret F n 8 [v0, v1, v2, v3, amClr v4, w] (st) h 0 0) := (amWp_dec rfl dX0_lacks_6 rfl).trans (amTrue2 (Nat.le_of_ble_eq_true rfl))
theorem wX0_lacks_8 {ret F n h} {v0 v1 v2 v3 v4 v5 st} : eX0_lacks ret F (n + 1) 8 [v0, v1, v2, v3, v4, v5] (st) h 0 0 = (amIsR v5 ∧ eX0_lacks ret F n 10 [v0, v1, v2, v3, v4, v5] (v5 :: st) h 0 0) := (amWp_dec rfl dX0_lacks_8 rfl).trans rfl
theorem wX0_lacks_10 {ret F n h} {v0 v1 v2 v3 v4 v5 a} : eX0_lacks ret F (n + 1) 10 [v0, v1, v2, v3, v4, v5] (.ref a :: []) h 0 0 = (h.1 a = (0, 5) ∧ eX0_lacks ret F n 13 [v0, v1, v2, v3, v4, v5] (va_rf (h.2.2.2.1 a 0) :: []) h 0 0) := (amWp_dec rfl dX0_lacks_10 rfl).trans (amS4 (Nat.le_of_ble_eq_true rfl) (Nat.le_of_ble_eq_true rfl) (Nat.le_of_ble_eq_true rfl) (Nat.le_of_ble_eq_true rfl))
theorem wX0_lacks_13 {ret F n h} {v0 v1 v2 v3 v4 v5 st b} : eX0_lacks ret F (n + 1) 13 [v0, v1, v2, v3, v4, v5] (.ref b :: st) h 0 0 = (eX0_lacks ret F n 19 [v0, v1, v2, v3, v4, v5] (st) h 0 0) := (amWp_dec rfl dX0_lacks_13 rfl).trans rfl
theorem wX0_lacks_13b {ret F n h} {v0 v1 v2 v3 v4 v5 st} : eX0_lacks ret F (n + 1) 13 [v0, v1, v2, v3, v4, v5] (.null :: st) h 0 0 = (eX0_lacks ret F n 16 [v0, v1, v2, v3, v4, v5] (st) h 0 0) := (amWp_dec rfl dX0_lacks_13 rfl).trans rfl
theorem wX0_lacks_16 {ret F n h} {v0 v1 v2 v3 v4 v5 st} : eX0_lacks ret F (n + 1) 16 [v0, v1, v2, v3, v4, v5] (st) h 0 0 = (eX0_lacks ret F n 18 [v0, v1, v2, v3, v4, v5] (.int (-11) :: st) h 0 0) := (amWp_dec rfl dX0_lacks_16 rfl).trans rfl
theorem wX0_lacks_18 {ret F n h} {v0 v1 v2 v3 v4 v5 x} : eX0_lacks ret F (n + 1) 18 [v0, v1, v2, v3, v4, v5] ([.int x]) h 0 0 = (ret (some (.int x)) h 0 0) := (amWp_dec rfl dX0_lacks_18 rfl).trans (amTrue ⟨_, rfl, rfl⟩)
theorem wX0_lacks_19 {ret F n h} {v0 v1 v2 v3 v4 v5 st} : eX0_lacks ret F (n + 1) 19 [v0, v1, v2, v3, v4, v5] (st) h 0 0 = (amIsR v5 ∧ eX0_lacks ret F n 21 [v0, v1, v2, v3, v4, v5] (v5 :: st) h 0 0) := (amWp_dec rfl dX0_lacks_19 rfl).trans rfl
theorem wX0_lacks_21 {ret F n h} {v0 v1 v2 v3 v4 v5 x0} : eX0_lacks ret F (n + 1) 21 [v0, v1, v2, v3, v4, v5] (.ref x0 :: []) h 0 0 = (h.1 x0 = (0, 5) ∧ tX5_lane [.ref x0] h (fun v h => eX0_lacks ret F n 24 [v0, v1, v2, v3, v4, v5] (v.toList ++ ([])) h 0 0)) := (amWp_dec rfl dX0_lacks_21 rfl).trans (amS4 (Nat.le_of_ble_eq_true rfl) (Nat.le_of_ble_eq_true rfl) (Nat.le_of_ble_eq_true rfl) (Nat.le_of_ble_eq_true rfl))
theorem wX0_lacks_24 {ret F n h} {v0 v1 v3 v4 v5 st x} : eX0_lacks ret F (n + 1) 24 [v0, v1, .int x, v3, v4, v5] (st) h 0 0 = (eX0_lacks ret F n 25 [v0, v1, .int x, v3, v4, v5] (.int x :: st) h 0 0) := (amWp_dec rfl dX0_lacks_24 rfl).trans rfl
theorem wX0_lacks_25 {ret F n h} {v0 v1 v2 v3 v4 v5 st y x} : eX0_lacks ret F (n + 1) 25 [v0, v1, v2, v3, v4, v5] (.int y :: .int x :: st) h 0 0 = ((x = y → eX0_lacks ret F n 31 [v0, v1, v2, v3, v4, v5] (st) h 0 0) ∧ (¬ x = y → eX0_lacks ret F n 28 [v0, v1, v2, v3, v4, v5] (st) h 0 0)) := (amWp_dec rfl dX0_lacks_25 rfl).trans rfl
theorem wX0_lacks_28 {ret F n h} {v0 v1 v2 v3 v4 v5 st} : eX0_lacks ret F (n + 1) 28 [v0, v1, v2, v3, v4, v5] (st) h 0 0 = (eX0_lacks ret F n 30 [v0, v1, v2, v3, v4, v5] (.int (-12) :: st) h 0 0) := (amWp_dec rfl dX0_lacks_28 rfl).trans rfl
theorem wX0_lacks_30 {ret F n h} {v0 v1 v2 v3 v4 v5 x} : eX0_lacks ret F (n + 1) 30 [v0, v1, v2, v3, v4, v5] ([.int x]) h 0 0 = (ret (some (.int x)) h 0 0) := (amWp_dec rfl dX0_lacks_30 rfl).trans (amTrue ⟨_, rfl, rfl⟩)
theorem wX0_lacks_31 {ret F n h} {v0 v1 v2 v4 v5 st x} : eX0_lacks ret F (n + 1) 31 [v0, v1, v2, .int x, v4, v5] (st) h 0 0 = (eX0_lacks ret F n 32 [v0, v1, v2, .int x, v4, v5] (.int x :: st) h 0 0) := (amWp_dec rfl dX0_lacks_31 rfl).trans rfl
theorem wX0_lacks_32 {ret F n h} {v0 v1 v2 v3 v4 v5 st x} : eX0_lacks ret F (n + 1) 32 [v0, v1, v2, v3, v4, v5] (.int x :: st) h 0 0 = ((x < 0 → eX0_lacks ret F n 47 [v0, v1, v2, v3, v4, v5] (st) h 0 0) ∧ (¬ x < 0 → eX0_lacks ret F n 35 [v0, v1, v2, v3, v4, v5] (st) h 0 0)) := (amWp_dec rfl dX0_lacks_32 rfl).trans rfl
theorem wX0_lacks_35 {ret F n h} {v0 v1 v2 v4 v5 st x} : eX0_lacks ret F (n + 1) 35 [v0, v1, v2, .int x, v4, v5] (st) h 0 0 = (eX0_lacks ret F n 36 [v0, v1, v2, .int x, v4, v5] (.int x :: st) h 0 0) := (amWp_dec rfl dX0_lacks_35 rfl).trans rfl
theorem wX0_lacks_36 {ret F n h} {v0 v1 v2 v3 v4 v5 st} : eX0_lacks ret F (n + 1) 36 [v0, v1, v2, v3, v4, v5] (st) h 0 0 = (amIsR v5 ∧ eX0_lacks ret F n 38 [v0, v1, v2, v3, v4, v5] (v5 :: st) h 0 0) := (amWp_dec rfl dX0_lacks_36 rfl).trans rfl
theorem wX0_lacks_38 {ret F n h} {v0 v1 v2 v3 v4 v5 x0 r0} : eX0_lacks ret F (n + 1) 38 [v0, v1, v2, v3, v4, v5] (.ref x0 :: r0 :: []) h 0 0 = (h.1 x0 = (0, 5) ∧ tX5_size [.ref x0] h (fun v h => eX0_lacks ret F n 41 [v0, v1, v2, v3, v4, v5] (v.toList ++ (r0 :: [])) h 0 0)) := (amWp_dec rfl dX0_lacks_38 rfl).trans (amS4 (Nat.le_of_ble_eq_true rfl) (Nat.le_of_ble_eq_true rfl) (Nat.le_of_ble_eq_true rfl) (Nat.le_of_ble_eq_true rfl))
theorem wX0_lacks_41 {ret F n h} {v0 v1 v2 v3 v5 st x} : eX0_lacks ret F (n + 1) 41 [v0, v1, v2, v3, .int x, v5] (st) h 0 0 = (eX0_lacks ret F n 43 [v0, v1, v2, v3, .int x, v5] (.int x :: st) h 0 0) := (amWp_dec rfl dX0_lacks_41 rfl).trans rfl
theorem wX0_lacks_43 {ret F n h} {v0 v1 v2 v3 v4 v5 st y x} : eX0_lacks ret F (n + 1) 43 [v0, v1, v2, v3, v4, v5] (.int y :: .int x :: st) h 0 0 = (eX0_lacks ret F n 44 [v0, v1, v2, v3, v4, v5] (.int (x - y) :: st) h 0 0) := (amWp_dec rfl dX0_lacks_43 rfl).trans rfl
theorem wX0_lacks_44 {ret F n h} {v0 v1 v2 v3 v4 v5 st y x} : eX0_lacks ret F (n + 1) 44 [v0, v1, v2, v3, v4, v5] (.int y :: .int x :: st) h 0 0 = ((x ≤ y → eX0_lacks ret F n 52 [v0, v1, v2, v3, v4, v5] (st) h 0 0) ∧ (¬ x ≤ y → eX0_lacks ret F n 47 [v0, v1, v2, v3, v4, v5] (st) h 0 0)) := (amWp_dec rfl dX0_lacks_44 rfl).trans rfl
theorem wX0_lacks_47 {ret F n h} {v0 v1 v2 v3 v4 v5 st} : eX0_lacks ret F (n + 1) 47 [v0, v1, v2, v3, v4, v5] (st) h 0 0 = (eX0_lacks ret F n 49 [v0, v1, v2, v3, v4, v5] (.int (-13) :: st) h 0 0) := (amWp_dec rfl dX0_lacks_47 rfl).trans rfl
theorem wX0_lacks_49 {ret F n h} {v0 v1 v2 v3 v4 v5 st} : eX0_lacks ret F (n + 1) 49 [v0, v1, v2, v3, v4, v5] (st) h 0 0 = (eX0_lacks ret F n 53 [v0, v1, v2, v3, v4, v5] (st) h 0 0) := (amWp_dec rfl dX0_lacks_49 rfl).trans rfl
theorem wX0_lacks_52 {ret F n h} {v0 v1 v2 v3 v4 v5 st} : eX0_lacks ret F (n + 1) 52 [v0, v1, v2, v3, v4, v5] (st) h 0 0 = (eX0_lacks ret F n 53 [v0, v1, v2, v3, v4, v5] (.int (nI 0) :: st) h 0 0) := (amWp_dec rfl dX0_lacks_52 rfl).trans rfl
theorem wX0_lacks_53 {ret F n h} {v0 v1 v2 v3 v4 v5 x} : eX0_lacks ret F (n + 1) 53 [v0, v1, v2, v3, v4, v5] ([.int x]) h 0 0 = (ret (some (.int x)) h 0 0) := (amWp_dec rfl dX0_lacks_53 rfl).trans (amTrue ⟨_, rfl, rfl⟩)
theorem evX0_lacks (l : Launch) (G : amG) : ∀ pc S i sz, amLk rX0_lacks pc = some S → decode cX0_lacks pc = .ok (i, sz) → amSiteP pc G l yX0_lacks.cls yX0_lacks.name yX0_lacks.desc (amRm 2 0 0) i sz S.1 S.2.1 S.2.2.1 S.2.2.2 := amLk_ok (by
  refine List.forall_mem_cons.mpr ⟨⟨_, _, dX0_lacks_1, amSite.P (amSiteGet ⟨_, rfl, by decide, Or.inl q325⟩)⟩, ?_⟩
  refine List.forall_mem_cons.mpr ⟨⟨_, _, dX0_lacks_10, amSite.P (amSiteGet ⟨_, rfl, by decide, Or.inr ⟨"ReadingStages", List.mem_of_getElem? (i := 13) rfl⟩⟩)⟩, ?_⟩
  refine List.forall_mem_cons.mpr ⟨⟨_, _, dX0_lacks_21, amSite.P (amSiteV (C := RX5) (metX5_lane l G) rfl (by decide) (by decide) (lw_V q1165 q1166 q1167 q93 q1168) ⟨_, rfl, rfl⟩ ⟨rfl, by decide +kernel, by decide +kernel, by decide +kernel⟩)⟩, ?_⟩
  refine List.forall_mem_cons.mpr ⟨⟨_, _, dX0_lacks_38, amSite.P (amSiteV (C := RX5) (metX5_size l G) rfl (by decide) (by decide) (lw_V q1172 q1173 q1174 q93 q1175) ⟨_, rfl, rfl⟩ ⟨rfl, by decide +kernel, by decide +kernel, by decide +kernel⟩)⟩, ?_⟩
  exact fun _ h => absurd h List.not_mem_nil)
theorem goX0_lacks {ret F} (hF : amCld cX0_lacks kX0_lacks (amLk rX0_lacks) (some .int) 0 0 ret F) (n : Nat) {pc ls st h k z} (q : sX0_lacks ret F n pc ls st h k z) : F pc ls st h k z := hF.1 n pc ls st h k z q
theorem metX0_lacks (l : Launch) (G : amG) : amMet l G yX0_lacks (ws_ yX0_lacks cX0_lacks 6 (some .int)) 2 0 0 tX0_lacks := by
  refine amMet_of (cut := kX0_lacks) (by decide +kernel) (evX0_lacks l G) ?_
  intro as h K hT
  match as, hT with
  | [.ref a, .int s0, .int lane, .int i, .int n0], ⟨sh, s, n, e1, hR, hsh, e2, s4, e3, n7, hK⟩ =>
  refine ⟨Nat.le_of_ble_eq_true rfl, fun F hF => ?_⟩
  show F 0 [.ref a, .int s0, .int lane, .int i, .int n0, .retAddr 0] [] h 0 0
  obtain ⟨a, rfl⟩ : ∃ i : Nat, i = a := ⟨_, rfl⟩
  subst e1 e2 e3
  obtain ⟨b1, b2, b3, b4, b5⟩ := hR.sheet s4
  have hs := hsh.1 s s4
  cases ho : sh s with
  | none =>
    rw [ho] at hs hK
    have hs : h.2.2.2.1 (57 + s) 0 = none := hs
    have hK : K (some (.int (-11))) h := hK
    refine goX0_lacks hF 40 ?_
    simp (disch := omega) only [wX0_lacks_0, uX0_lacks_0, wX0_lacks_1, wX0_lacks_4, wX0_lacks_5, wX0_lacks_6, wX0_lacks_8, wX0_lacks_10, wX0_lacks_13, wX0_lacks_13b, wX0_lacks_16, wX0_lacks_18, wX0_lacks_19, wX0_lacks_21, wX0_lacks_24, wX0_lacks_25, wX0_lacks_28, wX0_lacks_30, wX0_lacks_31, wX0_lacks_32, wX0_lacks_35, wX0_lacks_36, wX0_lacks_38, wX0_lacks_41, wX0_lacks_43, wX0_lacks_44, wX0_lacks_47, wX0_lacks_49, wX0_lacks_52, wX0_lacks_53, amSI_1, amSI_2, amSI_3, amSI_s, amU_at, amIsR_ref, amIsR_null, amIsR_rf, amRf_some, amRf_none, amClr_int, amClr_ref, amClr_null, amClr_long, amClr_ra, amClr_rf, amFit_int, amFit_oref, amFit_aref, amFit_onull, amFit_anull, amOptSome, amOptNone, List.cons_append, List.nil_append, true_and, and_true, true_implies, not_true_eq_false, not_false_eq_true, false_implies, and_self, Nat.add_zero, Nat.zero_add, ne_eq, Prod.mk.injEq, amC01_0, amC01_1, amC01_nb, amNb0, amNb1, amTcpI_d, Nat.reduceLeDiff, Nat.reduceAdd, Nat.reduceSub, Nat.reduceEqDiff, Nat.le_refl, amN0le, b1, b2, b3, b4, b5, amLeI, amLtI, amEqI, amLe0, amGt0, amEq0, amNotPosI, amGe0, amVI, amCl_nI, amAdd, amSub, amMul, hs]
    exact amRet.of (by decide) (by decide) hK
  | some v =>
    obtain ⟨k, vs⟩ := v
    rw [ho] at hs hK
    obtain ⟨k4, v24, x, x1, x2, x3, x4, x5⟩ := hs
    obtain ⟨ka, kb⟩ := laneKA k4
    have e : lackR (some (k, vs)) lane i n = if ¬ nI k = lane then -12 else if i < 0 then -13 else if vs.length < i.toNatClampNeg + n then -13 else 0 := rfl
    rw [e] at hK
    refine goX0_lacks hF 40 ?_
    simp (disch := omega) only [wX0_lacks_0, uX0_lacks_0, wX0_lacks_1, wX0_lacks_4, wX0_lacks_5, wX0_lacks_6, wX0_lacks_8, wX0_lacks_10, wX0_lacks_13, wX0_lacks_13b, wX0_lacks_16, wX0_lacks_18, wX0_lacks_19, wX0_lacks_21, wX0_lacks_24, wX0_lacks_25, wX0_lacks_28, wX0_lacks_30, wX0_lacks_31, wX0_lacks_32, wX0_lacks_35, wX0_lacks_36, wX0_lacks_38, wX0_lacks_41, wX0_lacks_43, wX0_lacks_44, wX0_lacks_47, wX0_lacks_49, wX0_lacks_52, wX0_lacks_53, amSI_1, amSI_2, amSI_3, amSI_s, amU_at, amIsR_ref, amIsR_null, amIsR_rf, amRf_some, amRf_none, amClr_int, amClr_ref, amClr_null, amClr_long, amClr_ra, amClr_rf, amFit_int, amFit_oref, amFit_aref, amFit_onull, amFit_anull, amOptSome, amOptNone, List.cons_append, List.nil_append, true_and, and_true, true_implies, not_true_eq_false, not_false_eq_true, false_implies, and_self, Nat.add_zero, Nat.zero_add, ne_eq, Prod.mk.injEq, amC01_0, amC01_1, amC01_nb, amNb0, amNb1, amTcpI_d, Nat.reduceLeDiff, Nat.reduceAdd, Nat.reduceSub, Nat.reduceEqDiff, Nat.le_refl, amN0le, b1, b2, b3, b4, b5, amLeI, amLtI, amEqI, amLe0, amGt0, amEq0, amNotPosI, amGe0, amVI, amCl_nI, amAdd, amSub, amMul, x3, tX5_lane_d, tX5_size_d]
    have e1 : (h.1 x).1 = laneK k := by rw [x4]
    have e2 : (h.1 x).2 = vs.length := by rw [x4]
    refine ⟨x, rfl, by rw [e1]; exact ka, fun z => ?_, fun z => ?_⟩ <;> rw [e1, kb] at z
    · rw [if_neg (fun y => y z)] at hK
      refine ⟨fun i0 => ?_, fun i0 => ⟨x, rfl, by rw [e1]; exact ka, fun c => ?_, fun c => ?_⟩⟩
      · rw [if_pos i0] at hK
        exact amRet.of (by decide) (by decide) hK
      · rw [if_neg i0] at hK
        rw [e2, clamp_id i0, leSub (clamp_lt i) (by omega) (by omega)] at c
        rw [if_neg (by omega)] at hK
        exact amRet.of (by decide) (by decide) hK
      · rw [if_neg i0] at hK
        rw [e2, clamp_id i0, leSub (clamp_lt i) (by omega) (by omega)] at c
        rw [if_pos (by omega)] at hK
        exact amRet.of (by decide) (by decide) hK
    · rw [if_pos z] at hK
      exact amRet.of (by decide) (by decide) hK
theorem tX0_lacks_d {a : Nat} {s0 lane i n0 : Int32} {h : amH} {K : Option Value → amH → Prop} : tX0_lacks [.ref a, .int s0, .int lane, .int i, .int n0] h K = ∃ (sh : Nat → Option (Nat × List Int64)) (s n : Nat), a = (24 : Nat) ∧ rsAt h ∧ ShIs h sh ∧ s0 = nI s ∧ s < 4 ∧ n0 = nI n ∧ n ≤ 7 ∧ K (some (.int (lackR (sh s) lane i n))) h := rfl
def tX0_drop : amT := fun as h K => match as with
  | [.ref a, .int s0] => ∃ X : XS, a = (24 : Nat) ∧ RsW h X ∧ ∀ h', rsFr h h' → RsW h' (dropR X s0).1 → K (some (.int (dropR X s0).2)) h'
  | _ => False
/-! ReadingStages.drop(I)I -/
def kX0_drop : Nat → Bool := fun pc => false
def rX0_drop : List (Nat × amS) := [(2, 2, 0, 0, tX0_isSheet), (11, 1, 0, 0, amTget 0 24), (16, 1, 0, 0, amTget 5 0), (26, 1, 0, 0, amTget 0 24), (31, 1, 0, 0, (amRecv 5 tX5_size)), (36, 1, 0, 0, amTget 0 24), (42, 2, 0, 0, amTput 5 0)]
def eX0_drop (ret : Option Value → amH → Nat → Nat → Prop) (F : amX) : Nat → amX := amWp cX0_drop kX0_drop (amLk rX0_drop) (some .int) 0 0 ret F
def sX0_drop (ret : Option Value → amH → Nat → Nat → Prop) (F : amX) : Nat → amX := amWs cX0_drop kX0_drop (amLk rX0_drop) (some .int) 0 0 ret F
theorem wX0_drop_0 {ret F n h} {v0 v2 st x} : eX0_drop ret F (n + 1) 0 [v0, .int x, v2] (st) h 0 0 = (eX0_drop ret F n 1 [v0, .int x, v2] (.int x :: st) h 0 0) := (amWp_dec rfl dX0_drop_0 rfl).trans rfl
theorem uX0_drop_0 {ret F n h} {v0 v2 st x} : sX0_drop ret F n 0 [v0, .int x, v2] (st) h 0 0 = (eX0_drop ret F n 1 [v0, .int x, v2] (.int x :: st) h 0 0) := (amWs_dec dX0_drop_0 rfl).trans rfl
theorem wX0_drop_1 {ret F n h} {v0 v1 v2 st} : eX0_drop ret F (n + 1) 1 [v0, v1, v2] (st) h 0 0 = (eX0_drop ret F n 2 [v0, v1, v2] (.int (nI 0) :: st) h 0 0) := (amWp_dec rfl dX0_drop_1 rfl).trans rfl
theorem wX0_drop_2 {ret F n h} {v0 v1 v2 x1 x0} : eX0_drop ret F (n + 1) 2 [v0, v1, v2] (.int x1 :: .int x0 :: []) h 0 0 = (tX0_isSheet [.int x0, .int x1] h (fun v h => eX0_drop ret F n 5 [v0, v1, v2] (v.toList ++ ([])) h 0 0)) := (amWp_dec rfl dX0_drop_2 rfl).trans (amS4 (Nat.le_of_ble_eq_true rfl) (Nat.le_of_ble_eq_true rfl) (Nat.le_of_ble_eq_true rfl) (Nat.le_of_ble_eq_true rfl))
theorem wX0_drop_5 {ret F n h} {v0 v1 v2 st x} : eX0_drop ret F (n + 1) 5 [v0, v1, v2] (.int x :: st) h 0 0 = ((¬ x = 0 → eX0_drop ret F n 10 [v0, v1, v2] (st) h 0 0) ∧ (x = 0 → eX0_drop ret F n 8 [v0, v1, v2] (st) h 0 0)) := (amWp_dec rfl dX0_drop_5 rfl).trans rfl
theorem wX0_drop_8 {ret F n h} {v0 v1 v2 st} : eX0_drop ret F (n + 1) 8 [v0, v1, v2] (st) h 0 0 = (eX0_drop ret F n 9 [v0, v1, v2] (.int (-1) :: st) h 0 0) := (amWp_dec rfl dX0_drop_8 rfl).trans rfl
theorem wX0_drop_9 {ret F n h} {v0 v1 v2 x} : eX0_drop ret F (n + 1) 9 [v0, v1, v2] ([.int x]) h 0 0 = (ret (some (.int x)) h 0 0) := (amWp_dec rfl dX0_drop_9 rfl).trans (amTrue ⟨_, rfl, rfl⟩)
theorem wX0_drop_10 {ret F n h} {v0 v1 v2 st} : eX0_drop ret F (n + 1) 10 [v0, v1, v2] (st) h 0 0 = (amIsR v0 ∧ eX0_drop ret F n 11 [v0, v1, v2] (v0 :: st) h 0 0) := (amWp_dec rfl dX0_drop_10 rfl).trans rfl
theorem wX0_drop_11 {ret F n h} {v0 v1 v2 a} : eX0_drop ret F (n + 1) 11 [v0, v1, v2] (.ref a :: []) h 0 0 = (h.1 a = (0, 0) ∧ eX0_drop ret F n 14 [v0, v1, v2] (va_rf (h.2.2.2.1 a 24) :: []) h 0 0) := (amWp_dec rfl dX0_drop_11 rfl).trans (amS4 (Nat.le_of_ble_eq_true rfl) (Nat.le_of_ble_eq_true rfl) (Nat.le_of_ble_eq_true rfl) (Nat.le_of_ble_eq_true rfl))
theorem wX0_drop_14 {ret F n h} {v0 v2 st x} : eX0_drop ret F (n + 1) 14 [v0, .int x, v2] (st) h 0 0 = (eX0_drop ret F n 15 [v0, .int x, v2] (.int x :: st) h 0 0) := (amWp_dec rfl dX0_drop_14 rfl).trans rfl
theorem wX0_drop_15 {ret F n h} {v0 v1 v2 st x a} : eX0_drop ret F (n + 1) 15 [v0, v1, v2] (.int x :: .ref a :: st) h 0 0 = (6 ≤ (h.1 a).1 ∧ (h.1 a).1 ≤ 8 ∧ vp_in x (h.1 a).2 ∧ eX0_drop ret F n 16 [v0, v1, v2] (va_rf (h.2.2.2.1 a x.toNatClampNeg) :: st) h 0 0) := (amWp_dec rfl dX0_drop_15 rfl).trans rfl
theorem wX0_drop_16 {ret F n h} {v0 v1 v2 a} : eX0_drop ret F (n + 1) 16 [v0, v1, v2] (.ref a :: []) h 0 0 = (h.1 a = (0, 5) ∧ eX0_drop ret F n 19 [v0, v1, v2] (va_rf (h.2.2.2.1 a 0) :: []) h 0 0) := (amWp_dec rfl dX0_drop_16 rfl).trans (amS4 (Nat.le_of_ble_eq_true rfl) (Nat.le_of_ble_eq_true rfl) (Nat.le_of_ble_eq_true rfl) (Nat.le_of_ble_eq_true rfl))
theorem wX0_drop_19 {ret F n h} {v0 v1 v2 st b} : eX0_drop ret F (n + 1) 19 [v0, v1, v2] (.ref b :: st) h 0 0 = (eX0_drop ret F n 25 [v0, v1, v2] (st) h 0 0) := (amWp_dec rfl dX0_drop_19 rfl).trans rfl
theorem wX0_drop_19b {ret F n h} {v0 v1 v2 st} : eX0_drop ret F (n + 1) 19 [v0, v1, v2] (.null :: st) h 0 0 = (eX0_drop ret F n 22 [v0, v1, v2] (st) h 0 0) := (amWp_dec rfl dX0_drop_19 rfl).trans rfl
theorem wX0_drop_22 {ret F n h} {v0 v1 v2 st} : eX0_drop ret F (n + 1) 22 [v0, v1, v2] (st) h 0 0 = (eX0_drop ret F n 24 [v0, v1, v2] (.int (-11) :: st) h 0 0) := (amWp_dec rfl dX0_drop_22 rfl).trans rfl
theorem wX0_drop_24 {ret F n h} {v0 v1 v2 x} : eX0_drop ret F (n + 1) 24 [v0, v1, v2] ([.int x]) h 0 0 = (ret (some (.int x)) h 0 0) := (amWp_dec rfl dX0_drop_24 rfl).trans (amTrue ⟨_, rfl, rfl⟩)
theorem wX0_drop_25 {ret F n h} {v0 v1 v2 st} : eX0_drop ret F (n + 1) 25 [v0, v1, v2] (st) h 0 0 = (amIsR v0 ∧ eX0_drop ret F n 26 [v0, v1, v2] (v0 :: st) h 0 0) := (amWp_dec rfl dX0_drop_25 rfl).trans rfl
theorem wX0_drop_26 {ret F n h} {v0 v1 v2 a} : eX0_drop ret F (n + 1) 26 [v0, v1, v2] (.ref a :: []) h 0 0 = (h.1 a = (0, 0) ∧ eX0_drop ret F n 29 [v0, v1, v2] (va_rf (h.2.2.2.1 a 24) :: []) h 0 0) := (amWp_dec rfl dX0_drop_26 rfl).trans (amS4 (Nat.le_of_ble_eq_true rfl) (Nat.le_of_ble_eq_true rfl) (Nat.le_of_ble_eq_true rfl) (Nat.le_of_ble_eq_true rfl))
theorem wX0_drop_29 {ret F n h} {v0 v2 st x} : eX0_drop ret F (n + 1) 29 [v0, .int x, v2] (st) h 0 0 = (eX0_drop ret F n 30 [v0, .int x, v2] (.int x :: st) h 0 0) := (amWp_dec rfl dX0_drop_29 rfl).trans rfl
theorem wX0_drop_30 {ret F n h} {v0 v1 v2 st x a} : eX0_drop ret F (n + 1) 30 [v0, v1, v2] (.int x :: .ref a :: st) h 0 0 = (6 ≤ (h.1 a).1 ∧ (h.1 a).1 ≤ 8 ∧ vp_in x (h.1 a).2 ∧ eX0_drop ret F n 31 [v0, v1, v2] (va_rf (h.2.2.2.1 a x.toNatClampNeg) :: st) h 0 0) := (amWp_dec rfl dX0_drop_30 rfl).trans rfl
theorem wX0_drop_31 {ret F n h} {v0 v1 v2 x0} : eX0_drop ret F (n + 1) 31 [v0, v1, v2] (.ref x0 :: []) h 0 0 = (h.1 x0 = (0, 5) ∧ tX5_size [.ref x0] h (fun v h => eX0_drop ret F n 34 [v0, v1, v2] (v.toList ++ ([])) h 0 0)) := (amWp_dec rfl dX0_drop_31 rfl).trans (amS4 (Nat.le_of_ble_eq_true rfl) (Nat.le_of_ble_eq_true rfl) (Nat.le_of_ble_eq_true rfl) (Nat.le_of_ble_eq_true rfl))
theorem wX0_drop_34 {ret F n h} {v0 v1 v2 st x} : eX0_drop ret F (n + 1) 34 [v0, v1, v2] (.int x :: st) h 0 0 = (eX0_drop ret F n 35 [v0, amClr v1, .int x] (st) h 0 0) := (amWp_dec rfl dX0_drop_34 rfl).trans (amTrue (Nat.le_of_ble_eq_true rfl))
theorem wX0_drop_35 {ret F n h} {v0 v1 v2 st} : eX0_drop ret F (n + 1) 35 [v0, v1, v2] (st) h 0 0 = (amIsR v0 ∧ eX0_drop ret F n 36 [v0, v1, v2] (v0 :: st) h 0 0) := (amWp_dec rfl dX0_drop_35 rfl).trans rfl
theorem wX0_drop_36 {ret F n h} {v0 v1 v2 a} : eX0_drop ret F (n + 1) 36 [v0, v1, v2] (.ref a :: []) h 0 0 = (h.1 a = (0, 0) ∧ eX0_drop ret F n 39 [v0, v1, v2] (va_rf (h.2.2.2.1 a 24) :: []) h 0 0) := (amWp_dec rfl dX0_drop_36 rfl).trans (amS4 (Nat.le_of_ble_eq_true rfl) (Nat.le_of_ble_eq_true rfl) (Nat.le_of_ble_eq_true rfl) (Nat.le_of_ble_eq_true rfl))
theorem wX0_drop_39 {ret F n h} {v0 v2 st x} : eX0_drop ret F (n + 1) 39 [v0, .int x, v2] (st) h 0 0 = (eX0_drop ret F n 40 [v0, .int x, v2] (.int x :: st) h 0 0) := (amWp_dec rfl dX0_drop_39 rfl).trans rfl
theorem wX0_drop_40 {ret F n h} {v0 v1 v2 st x a} : eX0_drop ret F (n + 1) 40 [v0, v1, v2] (.int x :: .ref a :: st) h 0 0 = (6 ≤ (h.1 a).1 ∧ (h.1 a).1 ≤ 8 ∧ vp_in x (h.1 a).2 ∧ eX0_drop ret F n 41 [v0, v1, v2] (va_rf (h.2.2.2.1 a x.toNatClampNeg) :: st) h 0 0) := (amWp_dec rfl dX0_drop_40 rfl).trans rfl
theorem wX0_drop_41 {ret F n h} {v0 v1 v2 st} : eX0_drop ret F (n + 1) 41 [v0, v1, v2] (st) h 0 0 = (eX0_drop ret F n 42 [v0, v1, v2] (.null :: st) h 0 0) := (amWp_dec rfl dX0_drop_41 rfl).trans rfl
theorem wX0_drop_42 {ret F n h} {v0 v1 v2 w a} : eX0_drop ret F (n + 1) 42 [v0, v1, v2] (w :: .ref a :: []) h 0 0 = (h.1 a = (0, 5) ∧ amN0 ≤ a ∧ amFit (.object "java/lang/Object") w ∧ eX0_drop ret F n 45 [v0, v1, v2] ([]) (amWr h a 0 w) 0 0) := (amWp_dec rfl dX0_drop_42 rfl).trans (amS4 (Nat.le_of_ble_eq_true rfl) (Nat.le_of_ble_eq_true rfl) (Nat.le_of_ble_eq_true rfl) (Nat.le_of_ble_eq_true rfl))
theorem wX0_drop_45 {ret F n h} {v0 v1 st x} : eX0_drop ret F (n + 1) 45 [v0, v1, .int x] (st) h 0 0 = (eX0_drop ret F n 46 [v0, v1, .int x] (.int x :: st) h 0 0) := (amWp_dec rfl dX0_drop_45 rfl).trans rfl
theorem wX0_drop_46 {ret F n h} {v0 v1 v2 x} : eX0_drop ret F (n + 1) 46 [v0, v1, v2] ([.int x]) h 0 0 = (ret (some (.int x)) h 0 0) := (amWp_dec rfl dX0_drop_46 rfl).trans (amTrue ⟨_, rfl, rfl⟩)
theorem evX0_drop (l : Launch) (G : amG) : ∀ pc S i sz, amLk rX0_drop pc = some S → decode cX0_drop pc = .ok (i, sz) → amSiteP pc G l yX0_drop.cls yX0_drop.name yX0_drop.desc (amRm 3 0 0) i sz S.1 S.2.1 S.2.2.1 S.2.2.2 := amLk_ok (by
  refine List.forall_mem_cons.mpr ⟨⟨_, _, dX0_drop_2, amSite.P (amSiteS (metX0_isSheet l G) rfl (by decide) (by decide) (lw_S q1157 q1158 q86 q1159) ⟨by decide +kernel, by decide +kernel, by decide +kernel⟩)⟩, ?_⟩
  refine List.forall_mem_cons.mpr ⟨⟨_, _, dX0_drop_11, amSite.P (amSiteGet ⟨_, rfl, by decide, Or.inl q325⟩)⟩, ?_⟩
  refine List.forall_mem_cons.mpr ⟨⟨_, _, dX0_drop_16, amSite.P (amSiteGet ⟨_, rfl, by decide, Or.inr ⟨"ReadingStages", List.mem_of_getElem? (i := 13) rfl⟩⟩)⟩, ?_⟩
  refine List.forall_mem_cons.mpr ⟨⟨_, _, dX0_drop_26, amSite.P (amSiteGet ⟨_, rfl, by decide, Or.inl q325⟩)⟩, ?_⟩
  refine List.forall_mem_cons.mpr ⟨⟨_, _, dX0_drop_31, amSite.P (amSiteV (C := RX5) (metX5_size l G) rfl (by decide) (by decide) (lw_V q1172 q1173 q1174 q93 q1175) ⟨_, rfl, rfl⟩ ⟨rfl, by decide +kernel, by decide +kernel, by decide +kernel⟩)⟩, ?_⟩
  refine List.forall_mem_cons.mpr ⟨⟨_, _, dX0_drop_36, amSite.P (amSiteGet ⟨_, rfl, by decide, Or.inl q325⟩)⟩, ?_⟩
  refine List.forall_mem_cons.mpr ⟨⟨_, _, dX0_drop_42, amSite.P (amSitePut ⟨_, rfl, by decide, Or.inr ⟨"ReadingStages", List.mem_of_getElem? (i := 13) rfl⟩⟩ (fun q h => by cases h; rfl))⟩, ?_⟩
  exact fun _ h => absurd h List.not_mem_nil)
theorem goX0_drop {ret F} (hF : amCld cX0_drop kX0_drop (amLk rX0_drop) (some .int) 0 0 ret F) (n : Nat) {pc ls st h k z} (q : sX0_drop ret F n pc ls st h k z) : F pc ls st h k z := hF.1 n pc ls st h k z q
theorem metX0_drop (l : Launch) (G : amG) : amMet l G yX0_drop (ws_ yX0_drop cX0_drop 3 (some .int)) 3 0 0 tX0_drop := by
  refine amMet_of (cut := kX0_drop) (by decide +kernel) (evX0_drop l G) ?_
  intro as h K hT
  match as, hT with
  | [.ref a, .int s0], ⟨X, e1, w, hK⟩ =>
  refine ⟨Nat.le_of_ble_eq_true rfl, fun F hF => ?_⟩
  show F 0 [.ref a, .int s0, .retAddr 0] [] h 0 0
  obtain ⟨a, rfl⟩ : ∃ i : Nat, i = a := ⟨_, rfl⟩
  subst e1
  have hR := w.1.1
  have z0 : lN 0 ≤ (nI 0).toInt64 ∧ (nI 0).toInt64 ≤ lN 3 := by decide
  by_cases q : lN 0 ≤ s0.toInt64 ∧ s0.toInt64 ≤ lN 3
  · have ok : okS s0 (nI 0) := ⟨q, z0⟩
    obtain ⟨s, s4, rfl⟩ := in3.mp q
    rw [dropR, if_neg (fun z => z q), amCl_nI (by omega)] at hK
    obtain ⟨b1, b2, b3, b4, b5⟩ := hR.sheet s4
    have hs := w.2.2.2.2.2.2.2.1 s s4
    cases ho : X.2.2.2.2 s with
    | none =>
      rw [ho] at hs hK
      have hs : h.2.2.2.1 (57 + s) 0 = none := hs
      have key := hK h (rsFr.rf h) w
      refine goX0_drop hF 50 ?_
      simp (disch := omega) only [wX0_drop_0, uX0_drop_0, wX0_drop_1, wX0_drop_2, wX0_drop_5, wX0_drop_8, wX0_drop_9, wX0_drop_10, wX0_drop_11, wX0_drop_14, wX0_drop_15, wX0_drop_16, wX0_drop_19, wX0_drop_19b, wX0_drop_22, wX0_drop_24, wX0_drop_25, wX0_drop_26, wX0_drop_29, wX0_drop_30, wX0_drop_31, wX0_drop_34, wX0_drop_35, wX0_drop_36, wX0_drop_39, wX0_drop_40, wX0_drop_41, wX0_drop_42, wX0_drop_45, wX0_drop_46, amSI_1, amSI_2, amSI_3, amSI_s, amU_at, amIsR_ref, amIsR_null, amIsR_rf, amRf_some, amRf_none, amClr_int, amClr_ref, amClr_null, amClr_long, amClr_ra, amClr_rf, amFit_int, amFit_oref, amFit_aref, amFit_onull, amFit_anull, amOptSome, amOptNone, List.cons_append, List.nil_append, true_and, and_true, true_implies, not_true_eq_false, not_false_eq_true, false_implies, and_self, Nat.add_zero, Nat.zero_add, ne_eq, Prod.mk.injEq, amC01_0, amC01_1, amC01_nb, amNb0, amNb1, amTcpI_d, Nat.reduceLeDiff, Nat.reduceAdd, Nat.reduceSub, Nat.reduceEqDiff, Nat.le_refl, amN0le, hR.s, hR.r, b4, b5, amLeI, amLtI, amEqI, amLe0, amGt0, amEq0, amNotPosI, amGe0, amVI, amCl_nI, amAdd, amSub, amMul, hs, tX0_isSheet_d, ok]
      exact ⟨fun _ => amRet.of (by decide) (by decide) key, fun z => absurd ok z⟩
    | some v =>
      obtain ⟨k, vs⟩ := v
      rw [ho] at hs hK
      obtain ⟨k4, v24, x, x1, x2, x3, x4, x5⟩ := hs
      obtain ⟨g1, g2⟩ := w.shw (h' := amWr h (57 + s) 0 .null) (fun i _ => rfl) (fun _ _ => rfl) (fun _ _ => rfl) (fun i _ hi => by simp [amWr, va_up, show i ≠ 57 + s by omega]) (Nat.le_refl _) (w.2.2.2.2.2.2.2.put (s := s) (o := none) (by
        show (amWr h (57 + s) 0 .null).2.2.2.1 (57 + s) 0 = none
        simp [amWr, va_up]) (fun t _ ht => by simp [amWr, va_up, ht]) (Nat.le_refl _) (fun _ _ _ _ _ _ => ⟨rfl, rfl, rfl⟩) (fun t i _ ht _ => by simp [amWr, va_up]))
      have key := hK _ g1 g2
      refine goX0_drop hF 50 ?_
      have e1 : (h.1 x).1 = laneK k := by rw [x4]
      have e2 : (h.1 x).2 = vs.length := by rw [x4]
      simp (disch := omega) only [wX0_drop_0, uX0_drop_0, wX0_drop_1, wX0_drop_2, wX0_drop_5, wX0_drop_8, wX0_drop_9, wX0_drop_10, wX0_drop_11, wX0_drop_14, wX0_drop_15, wX0_drop_16, wX0_drop_19, wX0_drop_19b, wX0_drop_22, wX0_drop_24, wX0_drop_25, wX0_drop_26, wX0_drop_29, wX0_drop_30, wX0_drop_31, wX0_drop_34, wX0_drop_35, wX0_drop_36, wX0_drop_39, wX0_drop_40, wX0_drop_41, wX0_drop_42, wX0_drop_45, wX0_drop_46, amSI_1, amSI_2, amSI_3, amSI_s, amU_at, amIsR_ref, amIsR_null, amIsR_rf, amRf_some, amRf_none, amClr_int, amClr_ref, amClr_null, amClr_long, amClr_ra, amClr_rf, amFit_int, amFit_oref, amFit_aref, amFit_onull, amFit_anull, amOptSome, amOptNone, List.cons_append, List.nil_append, true_and, and_true, true_implies, not_true_eq_false, not_false_eq_true, false_implies, and_self, Nat.add_zero, Nat.zero_add, ne_eq, Prod.mk.injEq, amC01_0, amC01_1, amC01_nb, amNb0, amNb1, amTcpI_d, Nat.reduceLeDiff, Nat.reduceAdd, Nat.reduceSub, Nat.reduceEqDiff, Nat.le_refl, amN0le, hR.s, hR.r, b4, b5, amLeI, amLtI, amEqI, amLe0, amGt0, amEq0, amNotPosI, amGe0, amVI, amCl_nI, amAdd, amSub, amMul, x3, tX0_isSheet_d, ok]
      refine ⟨fun _ => ?_, fun z => absurd ok z⟩
      rw [tX5_size_d]
      refine ⟨x, b5, x3, by rw [e1]; exact (laneKA k4).1, ?_⟩
      rw [e2]
      simp (disch := omega) only [wX0_drop_0, uX0_drop_0, wX0_drop_1, wX0_drop_2, wX0_drop_5, wX0_drop_8, wX0_drop_9, wX0_drop_10, wX0_drop_11, wX0_drop_14, wX0_drop_15, wX0_drop_16, wX0_drop_19, wX0_drop_19b, wX0_drop_22, wX0_drop_24, wX0_drop_25, wX0_drop_26, wX0_drop_29, wX0_drop_30, wX0_drop_31, wX0_drop_34, wX0_drop_35, wX0_drop_36, wX0_drop_39, wX0_drop_40, wX0_drop_41, wX0_drop_42, wX0_drop_45, wX0_drop_46, amSI_1, amSI_2, amSI_3, amSI_s, amU_at, amIsR_ref, amIsR_null, amIsR_rf, amRf_some, amRf_none, amClr_int, amClr_ref, amClr_null, amClr_long, amClr_ra, amClr_rf, amFit_int, amFit_oref, amFit_aref, amFit_onull, amFit_anull, amOptSome, amOptNone, List.cons_append, List.nil_append, true_and, and_true, true_implies, not_true_eq_false, not_false_eq_true, false_implies, and_self, Nat.add_zero, Nat.zero_add, ne_eq, Prod.mk.injEq, amC01_0, amC01_1, amC01_nb, amNb0, amNb1, amTcpI_d, Nat.reduceLeDiff, Nat.reduceAdd, Nat.reduceSub, Nat.reduceEqDiff, Nat.le_refl, amN0le, hR.s, hR.r, b4, b5, amLeI, amLtI, amEqI, amLe0, amGt0, amEq0, amNotPosI, amGe0, amVI, amCl_nI, amAdd, amSub, amMul, x3, ok]
      exact amRet.of (by decide) (by decide) key
  · have ok : ¬ okS s0 (nI 0) := fun z => q z.1
    rw [dropR, if_pos q] at hK
    have key := hK h (rsFr.rf h) w
    refine goX0_drop hF 40 ?_
    simp (disch := omega) only [wX0_drop_0, uX0_drop_0, wX0_drop_1, wX0_drop_2, wX0_drop_5, wX0_drop_8, wX0_drop_9, wX0_drop_10, wX0_drop_11, wX0_drop_14, wX0_drop_15, wX0_drop_16, wX0_drop_19, wX0_drop_19b, wX0_drop_22, wX0_drop_24, wX0_drop_25, wX0_drop_26, wX0_drop_29, wX0_drop_30, wX0_drop_31, wX0_drop_34, wX0_drop_35, wX0_drop_36, wX0_drop_39, wX0_drop_40, wX0_drop_41, wX0_drop_42, wX0_drop_45, wX0_drop_46, amSI_1, amSI_2, amSI_3, amSI_s, amU_at, amIsR_ref, amIsR_null, amIsR_rf, amRf_some, amRf_none, amClr_int, amClr_ref, amClr_null, amClr_long, amClr_ra, amClr_rf, amFit_int, amFit_oref, amFit_aref, amFit_onull, amFit_anull, amOptSome, amOptNone, List.cons_append, List.nil_append, true_and, and_true, true_implies, not_true_eq_false, not_false_eq_true, false_implies, and_self, Nat.add_zero, Nat.zero_add, ne_eq, Prod.mk.injEq, amC01_0, amC01_1, amC01_nb, amNb0, amNb1, amTcpI_d, Nat.reduceLeDiff, Nat.reduceAdd, Nat.reduceSub, Nat.reduceEqDiff, Nat.le_refl, amN0le, hR.s, hR.r, tX0_isSheet_d, ok]
    exact amRet.of (by decide) (by decide) key
theorem tX0_drop_d {a : Nat} {s0 : Int32} {h : amH} {K : Option Value → amH → Prop} : tX0_drop [.ref a, .int s0] h K = ∃ X : XS, a = (24 : Nat) ∧ RsW h X ∧ ∀ h', rsFr h h' → RsW h' (dropR X s0).1 → K (some (.int (dropR X s0).2)) h' := rfl
