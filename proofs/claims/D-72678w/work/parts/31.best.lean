/-! the best order of all; how many; the order of a number -/
set_option maxRecDepth 100000
/-- a question may change only the reading, the two boards, four figures; it may make cells -/
def pFr (h h' : amH) : Prop := rsAt h' ∧ h.2.2.2.2 ≤ h'.2.2.2.2 ∧ (∀ i : Nat, i < h.2.2.2.2 → i ≠ 24 → (i < 31 ∨ 41 ≤ i) → amSame h h' i) ∧ (∀ j : Nat, (j < 10 ∨ 14 ≤ j) → h'.2.1 24 j = h.2.1 24 j) ∧ ∀ i : Nat, i < h.2.2.2.2 → h'.1 i = h.1 i ∧ h'.2.2.1 i = h.2.2.1 i ∧ h'.2.2.2.1 i = h.2.2.2.1 i
/-- the system, ready for a question -/
def askPre (h : amH) (S : HS) : Prop := rsAt h ∧ HsIs h.2.1 25 S ∧ hsB S ∧ setsB S ∧ S.bound < 2147483648 ∧ 143 ≤ h.2.2.2.2
def bestF (S : HS) (l : List Nat) (B : Nat × Nat × List Nat) : (Nat × Nat × List Nat) × Bool := (bestStep S l B, true)
def HS.best (S : HS) : Nat × Nat × List Nat := (runA (bestF S) (allOrds S.ord.length) (21, 0, [])).1
def bestIs (m : Nat → Nat → Int32) (B : Nat × Nat × List Nat) : Prop := m 24 10 = nI B.1 ∧ m 24 11 = nI B.2.1 ∧ B.1 ≤ 21 ∧ B.2.1 ≤ 140 ∧ bdIs m 39 B.2.2
def qFr (m0 m : Nat → Nat → Int32) : Prop := (∀ i : Nat, i ≠ 24 → (i < 31 ∨ 41 ≤ i) → m i = m0 i) ∧ ∀ j : Nat, (j < 10 ∨ 14 ≤ j) → m 24 j = m0 24 j
theorem bestStep_le {S : HS} {l : List Nat} {B : Nat × Nat × List Nat} (h : B.1 ≤ 21) (h2 : B.2.1 ≤ 140) (hl : l.length ≤ 7) : (bestStep S l B).1 ≤ 21 ∧ (bestStep S l B).2.1 ≤ 140 := by
  unfold bestStep
  split
  · exact ⟨Nat.le_trans (S.peak_le l) (by decide), S.loss_le l hl⟩
  · exact ⟨h, h2⟩
theorem qFr.pFr {h hh : amH} {m : Nat → Nat → Int32} (hR : rsAt h) (hn : 143 ≤ h.2.2.2.2) (hs : ∀ i : Nat, i < h.2.2.2.2 → i ≠ 24 → (i < 31 ∨ 41 ≤ i) → amSame h hh i) (hs2 : ∀ i : Nat, i < 124 → hh.1 i = h.1 i ∧ hh.2.2.2.1 i = h.2.2.2.1 i) (hs3 : ∀ j : Nat, (j < 10 ∨ 14 ≤ j) → hh.2.1 24 j = h.2.1 24 j) (hnn : h.2.2.2.2 ≤ hh.2.2.2.2) (hs4 : ∀ i : Nat, i < h.2.2.2.2 → hh.1 i = h.1 i ∧ hh.2.2.1 i = h.2.2.1 i ∧ hh.2.2.2.1 i = h.2.2.2.1 i) (q : qFr hh.2.1 m) : pFr h (amSI hh m) := by
  refine ⟨(hR.mv (fun i hi => (hs2 i hi).1) (fun i hi _ _ _ => (hs2 i hi).2)), hnn, fun i h1 h2 h3 => ?_, fun j hj => (q.2 j hj).trans (hs3 j hj), hs4⟩
  have := hs i h1 h2 h3
  exact ⟨this.1, (q.1 i h2 h3).trans this.2.1, this.2.2.1, this.2.2.2⟩
theorem dyn1_at (h : amH) (k a : Nat) : (amWr (amNew h (k, 1)) h.2.2.2.2 0 (.ref a)).1 h.2.2.2.2 = (k, 1) ∧ (amWr (amNew h (k, 1)) h.2.2.2.2 0 (.ref a)).2.2.2.1 h.2.2.2.2 0 = some a := ⟨by rw [amWr_sh]; exact amNew_sh h _, by simp [amWr, va_up]⟩
theorem dyn2_at (h : amH) (k a : Nat) (x : Int32) : (amWr (amWr (amNew h (k, 2)) h.2.2.2.2 0 (.ref a)) h.2.2.2.2 1 (.int x)).1 h.2.2.2.2 = (k, 2) ∧ (amWr (amWr (amNew h (k, 2)) h.2.2.2.2 0 (.ref a)) h.2.2.2.2 1 (.int x)).2.2.2.1 h.2.2.2.2 0 = some a ∧ (amWr (amWr (amNew h (k, 2)) h.2.2.2.2 0 (.ref a)) h.2.2.2.2 1 (.int x)).2.1 h.2.2.2.2 1 = x := ⟨by rw [amWr_sh, amWr_sh]; exact amNew_sh h _, by simp [amWr, va_up], by simp [amWr, va_up]⟩
theorem dyn3_at (h : amH) (k a b : Nat) (x : Int32) : (amWr (amWr (amWr (amNew h (k, 3)) h.2.2.2.2 0 (.ref a)) h.2.2.2.2 1 (.ref b)) h.2.2.2.2 2 (.int x)).1 h.2.2.2.2 = (k, 3) ∧ (amWr (amWr (amWr (amNew h (k, 3)) h.2.2.2.2 0 (.ref a)) h.2.2.2.2 1 (.ref b)) h.2.2.2.2 2 (.int x)).2.2.2.1 h.2.2.2.2 0 = some a ∧ (amWr (amWr (amWr (amNew h (k, 3)) h.2.2.2.2 0 (.ref a)) h.2.2.2.2 1 (.ref b)) h.2.2.2.2 2 (.int x)).2.2.2.1 h.2.2.2.2 1 = some b ∧ (amWr (amWr (amWr (amNew h (k, 3)) h.2.2.2.2 0 (.ref a)) h.2.2.2.2 1 (.ref b)) h.2.2.2.2 2 (.int x)).2.1 h.2.2.2.2 2 = x := ⟨by rw [amWr_sh, amWr_sh, amWr_sh]; exact amNew_sh h _, by simp [amWr, va_up], by simp [amWr, va_up], by simp [amWr, va_up]⟩
/-- all orders asked, of a heap -/
theorem askAll_of {σ : Type} {f : List Nat → σ → σ × Bool} {P : σ → (Nat → Nat → Int32) → Prop} {S : HS} {hh : amH} {r : Nat} {s0 : σ} {K : Option Value → amH → Prop} (hR : rsAt hh) (hS : HsIs hh.2.1 25 S) (hB : hsB S) (hX : setsB S) (hbo : S.bound < 2147483648)
    (hst : ∀ s m m', P s m → mdFr m m' → P s m') (h0 : P s0 (amU hh.2.1 24 12 (nI 0)))
    (hA : ∀ l s m K, l.length = S.ord.length → rdPre (amSI hh m) S 37 l → P s m → (∀ m', asFr m m' → (∀ j : Nat, (j < 10 ∨ 14 ≤ j) → m' 24 j = m 24 j) → P (f l s).1 m' → K (some (.int (amC01 ((f l s).2 = true)))) (amSI hh m')) → tAsk [.ref r, .ref 37] (amSI hh m) K)
    (hK : ∀ m', qFr hh.2.1 m' → P (runA f (allOrds S.ord.length) s0).1 m' → K none (amSI hh m')) : tX0_askAll [.ref 24, .ref r] hh K := by
  rw [tX0_askAll_d]
  refine ⟨σ, f, fun s m => qFr hh.2.1 m ∧ P s m, S.ord.length, s0, rfl, hS.n7, hR, hS.many, ⟨⟨fun i h1 h2 => ?_, fun j hj => ?_⟩, hst _ _ _ h0 (fun i h1 h2 => ?_)⟩, fun s m q => ?_, fun s m m' q1 q2 => ⟨⟨fun i h1 h2 => ?_, fun j hj => ?_⟩, hst _ _ _ q1.2 q2⟩, fun l s m K' hl hln q1 q2 q3 => ?_, fun m' q => hK m' q.1 q.2⟩
  · simp (disch := omega) only [amU_at, amU_ne, amU_nj, amU_neR, up_ne, up_at, amSI_2]
  · simp (disch := omega) only [amU_at, amU_ne, amU_nj, amU_neR, up_ne, up_at, amSI_2]
  · by_cases e : i = 24
    · subst e
      funext j
      by_cases e : j = 12
      · subst e; simp (disch := omega) only [amU_at, amU_ne, amU_nj, amU_neR, up_ne, up_at, amSI_2]
      · simp (disch := omega) only [amU_at, amU_ne, amU_nj, amU_neR, up_ne, up_at, amSI_2]
    · simp (disch := omega) only [amU_at, amU_ne, amU_nj, amU_neR, up_ne, up_at, amSI_2]
  · rw [q.1.1 28 (by decide) (by decide)]
    exact hS.many
  · rw [q2 i (by omega) (by omega)]
    exact q1.1.1 i h1 h2
  · rw [q2 24 (by decide) (by decide)]
    exact q1.1.2 j hj
  · refine hA l s m K' hln ⟨hR, hS.kept (fun i i1 i2 => q1.1.1 i (by omega) (by omega)), hB, hX, hbo, hR.mind, q2, Or.inr (by decide), hl⟩ q1.2 (fun m' p1 p2 p3 => q3 m' ⟨⟨fun i h1 h2 => ?_, fun j hj => ?_⟩, p3⟩ ?_)
    · rw [p1 i h1 (by omega) (by omega) (by omega)]
      exact q1.1.1 i h1 h2
    · rw [p2 j hj]
      exact q1.1.2 j hj
    · exact q2.kept (p1 37 (by decide) (by decide) (by decide) (by decide)) (p1 38 (by decide) (by decide) (by decide) (by decide))
def tX0_layBest : amT := fun as h K => match as with
  | [.ref a] => ∃ S : HS, a = (24 : Nat) ∧ askPre h S ∧ ∀ h', pFr h h' → bestIs h'.2.1 S.best → K none h'
  | _ => False
/-! ReadingStages.layBest()V -/
def kX0_layBest : Nat → Bool := fun pc => pc == 28
def rX0_layBest : List (Nat × amS) := [(1, 1, 0, 0, amTget 0 9), (4, 1, 0, 0, (amRecv 2 tX2_clear)), (10, 2, 0, 0, amTput 0 10), (15, 2, 0, 0, amTput 0 11), (20, 1, 1, 1, amTdyn1 23), (25, 2, 0, 0, (amRecv 0 tX0_askAll))]
def eX0_layBest (ret : Option Value → amH → Nat → Nat → Prop) (F : amX) : Nat → amX := amWp cX0_layBest kX0_layBest (amLk rX0_layBest) none 1 1 ret F
def sX0_layBest (ret : Option Value → amH → Nat → Nat → Prop) (F : amX) : Nat → amX := amWs cX0_layBest kX0_layBest (amLk rX0_layBest) none 1 1 ret F
theorem wX0_layBest_0 {ret F n h k z} {v0 st} : eX0_layBest ret F (n + 1) 0 [v0] (st) h k z = (amIsR v0 ∧ eX0_layBest ret F n 1 [v0] (v0 :: st) h k z) := (amWp_dec rfl dX0_layBest_0 rfl).trans rfl
theorem uX0_layBest_0 {ret F n h k z} {v0 st} : sX0_layBest ret F n 0 [v0] (st) h k z = (amIsR v0 ∧ eX0_layBest ret F n 1 [v0] (v0 :: st) h k z) := (amWs_dec dX0_layBest_0 rfl).trans rfl
theorem wX0_layBest_1 {ret F n h k z} {v0 a} : eX0_layBest ret F (n + 1) 1 [v0] (.ref a :: []) h k z = (k + 0 ≤ 1 ∧ z + 0 ≤ 1 ∧ h.1 a = (0, 0) ∧ eX0_layBest ret F n 4 [v0] (va_rf (h.2.2.2.1 a 9) :: []) h (k + 0) (z + 0)) := (amWp_dec rfl dX0_layBest_1 rfl).trans (amS2 (Nat.le_of_ble_eq_true rfl) (Nat.le_of_ble_eq_true rfl))
theorem wX0_layBest_4 {ret F n h k z} {v0 x0} : eX0_layBest ret F (n + 1) 4 [v0] (.ref x0 :: []) h k z = (k + 0 ≤ 1 ∧ z + 0 ≤ 1 ∧ h.1 x0 = (0, 2) ∧ tX2_clear [.ref x0] h (fun v h => eX0_layBest ret F n 7 [v0] (v.toList ++ ([])) h (k + 0) (z + 0))) := (amWp_dec rfl dX0_layBest_4 rfl).trans (amS2 (Nat.le_of_ble_eq_true rfl) (Nat.le_of_ble_eq_true rfl))
theorem wX0_layBest_7 {ret F n h k z} {v0 st} : eX0_layBest ret F (n + 1) 7 [v0] (st) h k z = (amIsR v0 ∧ eX0_layBest ret F n 8 [v0] (v0 :: st) h k z) := (amWp_dec rfl dX0_layBest_7 rfl).trans rfl
theorem wX0_layBest_8 {ret F n h k z} {v0 st} : eX0_layBest ret F (n + 1) 8 [v0] (st) h k z = (eX0_layBest ret F n 10 [v0] (.int (nI 21) :: st) h k z) := (amWp_dec rfl dX0_layBest_8 rfl).trans rfl
theorem wX0_layBest_10 {ret F n h k z} {v0 x a} : eX0_layBest ret F (n + 1) 10 [v0] (.int x :: .ref a :: []) h k z = (k + 0 ≤ 1 ∧ z + 0 ≤ 1 ∧ h.1 a = (0, 0) ∧ amN0 ≤ a ∧ amFit .int (.int x) ∧ eX0_layBest ret F n 13 [v0] ([]) (amSI h (amU h.2.1 a 10 x)) (k + 0) (z + 0)) := (amWp_dec rfl dX0_layBest_10 rfl).trans (amS2 (Nat.le_of_ble_eq_true rfl) (Nat.le_of_ble_eq_true rfl))
theorem wX0_layBest_13 {ret F n h k z} {v0 st} : eX0_layBest ret F (n + 1) 13 [v0] (st) h k z = (amIsR v0 ∧ eX0_layBest ret F n 14 [v0] (v0 :: st) h k z) := (amWp_dec rfl dX0_layBest_13 rfl).trans rfl
theorem wX0_layBest_14 {ret F n h k z} {v0 st} : eX0_layBest ret F (n + 1) 14 [v0] (st) h k z = (eX0_layBest ret F n 15 [v0] (.int (nI 0) :: st) h k z) := (amWp_dec rfl dX0_layBest_14 rfl).trans rfl
theorem wX0_layBest_15 {ret F n h k z} {v0 x a} : eX0_layBest ret F (n + 1) 15 [v0] (.int x :: .ref a :: []) h k z = (k + 0 ≤ 1 ∧ z + 0 ≤ 1 ∧ h.1 a = (0, 0) ∧ amN0 ≤ a ∧ amFit .int (.int x) ∧ eX0_layBest ret F n 18 [v0] ([]) (amSI h (amU h.2.1 a 11 x)) (k + 0) (z + 0)) := (amWp_dec rfl dX0_layBest_15 rfl).trans (amS2 (Nat.le_of_ble_eq_true rfl) (Nat.le_of_ble_eq_true rfl))
theorem wX0_layBest_18 {ret F n h k z} {v0 st} : eX0_layBest ret F (n + 1) 18 [v0] (st) h k z = (amIsR v0 ∧ eX0_layBest ret F n 19 [v0] (v0 :: st) h k z) := (amWp_dec rfl dX0_layBest_18 rfl).trans rfl
theorem wX0_layBest_19 {ret F n h k z} {v0 st} : eX0_layBest ret F (n + 1) 19 [v0] (st) h k z = (amIsR v0 ∧ eX0_layBest ret F n 20 [v0] (v0 :: st) h k z) := (amWp_dec rfl dX0_layBest_19 rfl).trans rfl
theorem wX0_layBest_20 {ret F n h k z} {v0 x0 r0} : eX0_layBest ret F (n + 1) 20 [v0] (.ref x0 :: r0 :: []) h k z = (k + 1 ≤ 1 ∧ z + 1 ≤ 1 ∧ amTdyn1 23 [.ref x0] h (fun v h => eX0_layBest ret F n 25 [v0] (v.toList ++ (r0 :: [])) h (k + 1) (z + 1))) := (amWp_dec rfl dX0_layBest_20 rfl).trans (amS2 (Nat.le_of_ble_eq_true rfl) (Nat.le_of_ble_eq_true rfl))
theorem wX0_layBest_25 {ret F n h k z} {v0 x1 x0} : eX0_layBest ret F (n + 1) 25 [v0] (.ref x1 :: .ref x0 :: []) h k z = (k + 0 ≤ 1 ∧ z + 0 ≤ 1 ∧ h.1 x0 = (0, 0) ∧ tX0_askAll [.ref x0, .ref x1] h (fun v h => eX0_layBest ret F n 28 [v0] (v.toList ++ ([])) h (k + 0) (z + 0))) := (amWp_dec rfl dX0_layBest_25 rfl).trans (amS2 (Nat.le_of_ble_eq_true rfl) (Nat.le_of_ble_eq_true rfl))
theorem wX0_layBest_28 {ret F n ls st h k z} : eX0_layBest ret F (n + 1) 28 ls st h k z = F 28 ls st h k z := amWp_cut rfl
theorem uX0_layBest_28 {ret F n h k z} {v0} : sX0_layBest ret F n 28 [v0] ([]) h k z = (ret none h k z) := (amWs_dec dX0_layBest_28 rfl).trans (amTrue rfl)
theorem evX0_layBest (l : Launch) (G : amG) : ∀ pc S i sz, amLk rX0_layBest pc = some S → decode cX0_layBest pc = .ok (i, sz) → amSiteP pc G l yX0_layBest.cls yX0_layBest.name yX0_layBest.desc (amRm 21 1 1) i sz S.1 S.2.1 S.2.2.1 S.2.2.2 := amLk_ok (by
  refine List.forall_mem_cons.mpr ⟨⟨_, _, dX0_layBest_1, amSite.P (amSiteGet ⟨_, rfl, by decide, Or.inl q310⟩)⟩, ?_⟩
  refine List.forall_mem_cons.mpr ⟨⟨_, _, dX0_layBest_4, amSite.P (amSiteV (C := RX2) (metX2_clear l G) rfl (by decide) (by decide) (lw_V q389 q390 q391 q88 q392) ⟨_, rfl, rfl⟩ ⟨rfl, by decide +kernel, by decide +kernel, by decide +kernel⟩)⟩, ?_⟩
  refine List.forall_mem_cons.mpr ⟨⟨_, _, dX0_layBest_10, amSite.P (amSitePut ⟨_, rfl, by decide, Or.inl q311⟩ (fun q h => by cases h; rfl))⟩, ?_⟩
  refine List.forall_mem_cons.mpr ⟨⟨_, _, dX0_layBest_15, amSite.P (amSitePut ⟨_, rfl, by decide, Or.inl q312⟩ (fun q h => by cases h; rfl))⟩, ?_⟩
  refine List.forall_mem_cons.mpr ⟨⟨_, _, dX0_layBest_20, amSiteDyn195 rfl⟩, ?_⟩
  refine List.forall_mem_cons.mpr ⟨⟨_, _, dX0_layBest_25, amSite.P (amSiteV (C := RX0) (metX0_askAll l G) rfl (by decide) (by decide) (lw_V q474 q476 qs13 q86 q477) ⟨_, rfl, rfl⟩ ⟨rfl, by decide +kernel, by decide +kernel, by decide +kernel⟩)⟩, ?_⟩
  exact fun _ h => absurd h List.not_mem_nil)
theorem goX0_layBest {ret F} (hF : amCld cX0_layBest kX0_layBest (amLk rX0_layBest) none 1 1 ret F) (n : Nat) {pc ls st h k z} (q : sX0_layBest ret F n pc ls st h k z) : F pc ls st h k z := hF.1 n pc ls st h k z q
theorem metX0_layBest (l : Launch) (G : amG) : amMet l G yX0_layBest (ws_ yX0_layBest cX0_layBest 1 none) 21 1 1 tX0_layBest := by
  refine amMet_of (cut := kX0_layBest) (by decide +kernel) (evX0_layBest l G) ?_
  intro as h K hT
  match as, hT with
  | [.ref a], ⟨S, e1, ⟨hR, hS, hB, hX, hbo, hn⟩, hK⟩ =>
  refine ⟨Nat.le_of_ble_eq_true rfl, fun F hF => ?_⟩
  show F 0 [.ref a] [] h 0 0
  obtain ⟨a, rfl⟩ : ∃ i : Nat, i = a := ⟨_, rfl⟩
  subst e1
  have n7 := hS.n7
  refine goX0_layBest hF 60 ?_
  simp (disch := omega) only [wX0_layBest_0, uX0_layBest_0, wX0_layBest_1, wX0_layBest_4, wX0_layBest_7, wX0_layBest_8, wX0_layBest_10, wX0_layBest_13, wX0_layBest_14, wX0_layBest_15, wX0_layBest_18, wX0_layBest_19, wX0_layBest_20, wX0_layBest_25, wX0_layBest_28, uX0_layBest_28, amSI_1, amSI_2, amSI_3, amSI_s, amU_at, amIsR_ref, amIsR_null, amIsR_rf, amRf_some, amRf_none, amClr_int, amClr_ref, amClr_null, amClr_long, amClr_ra, amClr_rf, amFit_int, amFit_oref, amFit_aref, amFit_onull, amFit_anull, amOptSome, amOptNone, List.cons_append, List.nil_append, true_and, and_true, true_implies, not_true_eq_false, not_false_eq_true, false_implies, and_self, Nat.add_zero, Nat.zero_add, ne_eq, Prod.mk.injEq, amC01_0, amC01_1, amC01_nb, amNb0, amNb1, amTcpI_d, Nat.reduceLeDiff, Nat.reduceAdd, Nat.reduceSub, Nat.reduceEqDiff, Nat.le_refl, amN0le, hR.s, hR.r, tX2_clear_d, amTdyn1_d]
  generalize hXm : amU (amU (amU h.2.1 39 1 (nI 0)) 24 10 (nI 21)) 24 11 (nI 0) = X
  have sm : ∀ i : Nat, i < h.2.2.2.2 → amSame (amSI h X) (amWr (amNew (amSI h X) (23, 1)) h.2.2.2.2 0 (.ref 24)) i := fun i hi => amDyn1_same (h := amSI h X) hi
  have da : (amWr (amNew (amSI h X) (23, 1)) h.2.2.2.2 0 (.ref 24)).1 h.2.2.2.2 = (23, 1) ∧ (amWr (amNew (amSI h X) (23, 1)) h.2.2.2.2 0 (.ref 24)).2.2.2.1 h.2.2.2.2 0 = some 24 := dyn1_at (amSI h X) 23 24
  have dn : (amWr (amNew (amSI h X) (23, 1)) h.2.2.2.2 0 (.ref 24)).2.2.2.2 = h.2.2.2.2 + 1 := rfl
  generalize hhh : amWr (amNew (amSI h X) (23, 1)) h.2.2.2.2 0 (.ref 24) = hh at sm da dn
  have hsh : ∀ i : Nat, i < 124 → hh.1 i = h.1 i ∧ hh.2.2.2.1 i = h.2.2.2.1 i := fun i hi => ⟨(sm i (by omega)).1, (sm i (by omega)).2.2.2⟩
  have hmm : ∀ i : Nat, i < h.2.2.2.2 → hh.2.1 i = X i := fun i hi => (sm i hi).2.1
  have h24 := hmm 24 (by omega)
  have h39 := hmm 39 (by omega)
  have hR' : rsAt hh := hR.mv (fun i hi => (hsh i hi).1) (fun i hi _ _ _ => (hsh i hi).2)
  have hS' : HsIs hh.2.1 25 S := hS.kept (fun i i1 i2 => by rw [hmm i (by omega), ← hXm]; funext j; simp (disch := omega) only [amU_at, amU_ne, amU_nj, amU_neR, up_ne, up_at, amSI_2])
  refine ⟨by rw [(hsh 24 (by decide)).1]; exact hR.s.1, ?_⟩
  refine askAll_of (P := fun B m => bestIs m B) (f := bestF S) (S := S) (s0 := (21, 0, [])) hR' hS' hB hX hbo ?_ ?_ ?_ ?_
  · intro s m m' q eF
    have e24 := eF 24 (by decide) (by decide)
    have e39 := eF 39 (by decide) (by decide)
    have e40 := eF 40 (by decide) (by decide)
    exact ⟨by rw [e24]; exact q.1, by rw [e24]; exact q.2.1, q.2.2.1, q.2.2.2.1, q.2.2.2.2.kept e39 e40⟩
  · refine ⟨?_, ?_, Nat.le_refl _, by decide, by decide, by simp, ?_, by simp⟩
    · simp (disch := omega) only [amU_at, amU_ne, amU_nj, amU_neR, up_ne, up_at, amSI_2, h24]
      rw [← hXm]
      simp (disch := omega) only [amU_at, amU_ne, amU_nj, amU_neR, up_ne, up_at, amSI_2]
    · simp (disch := omega) only [amU_at, amU_ne, amU_nj, amU_neR, up_ne, up_at, amSI_2, h24]
      rw [← hXm]
      simp (disch := omega) only [amU_at, amU_ne, amU_nj, amU_neR, up_ne, up_at, amSI_2]
    · simp (disch := omega) only [amU_at, amU_ne, amU_nj, amU_neR, up_ne, up_at, amSI_2, h39]
      rw [← hXm]
      simp (disch := omega) only [amU_at, amU_ne, amU_nj, amU_neR, up_ne, up_at, amSI_2]
      rfl
  · intro l s m K' _ hp q kk
    have hp' := hp
    obtain ⟨p1, p2, p3, p4, p5, p6, p7, p8, p9⟩ := hp'
    refine Or.inl ⟨da.1, 24, da.2, S, l, s, rfl, rfl, hp, q.1, q.2.1, by have := q.2.2.1; omega, by have := q.2.2.2.1; omega, q.2.2.2.2, fun m' f1 f2 f3 f4 f5 => ?_⟩
    have := kk m' f1 (fun j hj => f2 j (by omega) (by omega)) ⟨f3, f4, (bestStep_le q.2.2.1 q.2.2.2.1 p7.1).1, (bestStep_le q.2.2.1 q.2.2.2.1 p7.1).2, f5⟩
    have e1 : amC01 ((bestF S l s).2 = true) = nI 1 := amC01_t rfl
    rw [e1] at this
    exact this
  · intro m' q1 q2
    refine goX0_layBest hF 60 ?_
    simp (disch := omega) only [wX0_layBest_0, uX0_layBest_0, wX0_layBest_1, wX0_layBest_4, wX0_layBest_7, wX0_layBest_8, wX0_layBest_10, wX0_layBest_13, wX0_layBest_14, wX0_layBest_15, wX0_layBest_18, wX0_layBest_19, wX0_layBest_20, wX0_layBest_25, wX0_layBest_28, uX0_layBest_28, amSI_1, amSI_2, amSI_3, amSI_s, amU_at, amIsR_ref, amIsR_null, amIsR_rf, amRf_some, amRf_none, amClr_int, amClr_ref, amClr_null, amClr_long, amClr_ra, amClr_rf, amFit_int, amFit_oref, amFit_aref, amFit_onull, amFit_anull, amOptSome, amOptNone, List.cons_append, List.nil_append, true_and, and_true, true_implies, not_true_eq_false, not_false_eq_true, false_implies, and_self, Nat.add_zero, Nat.zero_add, ne_eq, Prod.mk.injEq, amC01_0, amC01_1, amC01_nb, amNb0, amNb1, amTcpI_d, Nat.reduceLeDiff, Nat.reduceAdd, Nat.reduceSub, Nat.reduceEqDiff, Nat.le_refl, amN0le, hR.s, hR.r]
    refine amRet.of (by decide) (by decide) (hK _ ?_ q2)
    refine q1.pFr hR hn (fun i h1 h2 h3 => ?_) hsh (fun j hj => ?_) (by omega) (fun i hi => ⟨(sm i hi).1, (sm i hi).2.2.1, (sm i hi).2.2.2⟩)
    · refine amSame.tr (h2 := amSI h X) ⟨rfl, ?_, rfl, rfl⟩ (sm i h1)
      show X i = h.2.1 i
      rw [← hXm]
      simp (disch := omega) only [amU_at, amU_ne, amU_nj, amU_neR, up_ne, up_at, amSI_2]
    · rw [hmm 24 (by omega), ← hXm]
      simp (disch := omega) only [amU_at, amU_ne, amU_nj, amU_neR, up_ne, up_at, amSI_2]
theorem tX0_layBest_d {a : Nat} {h : amH} {K : Option Value → amH → Prop} : tX0_layBest [.ref a] h K = ∃ S : HS, a = (24 : Nat) ∧ askPre h S ∧ ∀ h', pFr h h' → bestIs h'.2.1 S.best → K none h' := rfl
def manyF (S : HS) (w : Nat) (l : List Nat) (c : Nat) : Nat × Bool := (if (if w = 0 then S.holds l else S.fits l) then c + 1 else c, true)
/-- how many orders hold, or fit -/
def HS.manyN (S : HS) (w : Nat) : Nat := (runA (manyF S w) (allOrds S.ord.length) 0).1
def manyA (S : HS) (x : Int32) : Int32 := if x = nI 0 then nI (S.manyN 0) else if x = nI 1 then nI (S.manyN 1) else -1
def tX0_many : amT := fun as h K => match as with
  | [.ref a, .int x] => ∃ S : HS, a = (24 : Nat) ∧ askPre h S ∧ ∀ h', pFr h h' → K (some (.int (manyA S x))) h'
  | _ => False
theorem pFr.rf {h : amH} (hR : rsAt h) : pFr h h := ⟨hR, Nat.le_refl _, fun i _ _ _ => amSame.rf h i, fun _ _ => rfl, fun _ _ => ⟨rfl, rfl, rfl⟩⟩
/-! ReadingStages.many(I)I -/
def kX0_many : Nat → Bool := fun pc => pc == 23
def rX0_many : List (Nat × amS) := [(4, 3, 0, 0, tX0_isIn), (15, 2, 1, 2, amTdyn2 24), (20, 2, 0, 0, (amRecv 0 tX0_askAll)), (24, 1, 0, 0, amTget 0 12)]
def eX0_many (ret : Option Value → amH → Nat → Nat → Prop) (F : amX) : Nat → amX := amWp cX0_many kX0_many (amLk rX0_many) (some .int) 1 2 ret F
def sX0_many (ret : Option Value → amH → Nat → Nat → Prop) (F : amX) : Nat → amX := amWs cX0_many kX0_many (amLk rX0_many) (some .int) 1 2 ret F
theorem wX0_many_0 {ret F n h k z} {v0 st x} : eX0_many ret F (n + 1) 0 [v0, .int x] (st) h k z = (eX0_many ret F n 1 [v0, .int x] (.int x :: st) h k z) := (amWp_dec rfl dX0_many_0 rfl).trans rfl
theorem uX0_many_0 {ret F n h k z} {v0 st x} : sX0_many ret F n 0 [v0, .int x] (st) h k z = (eX0_many ret F n 1 [v0, .int x] (.int x :: st) h k z) := (amWs_dec dX0_many_0 rfl).trans rfl
theorem wX0_many_1 {ret F n h k z} {v0 v1 st x} : eX0_many ret F (n + 1) 1 [v0, v1] (.int x :: st) h k z = (eX0_many ret F n 2 [v0, v1] (.long x.toInt64 :: st) h k z) := (amWp_dec rfl dX0_many_1 rfl).trans rfl
theorem wX0_many_2 {ret F n h k z} {v0 v1 st} : eX0_many ret F (n + 1) 2 [v0, v1] (st) h k z = (eX0_many ret F n 3 [v0, v1] (.long (lN 0) :: st) h k z) := (amWp_dec rfl dX0_many_2 rfl).trans rfl
theorem wX0_many_3 {ret F n h k z} {v0 v1 st} : eX0_many ret F (n + 1) 3 [v0, v1] (st) h k z = (eX0_many ret F n 4 [v0, v1] (.long (lN 1) :: st) h k z) := (amWp_dec rfl dX0_many_3 rfl).trans rfl
theorem wX0_many_4 {ret F n h k z} {v0 v1 x2 x1 x0} : eX0_many ret F (n + 1) 4 [v0, v1] (.long x2 :: .long x1 :: .long x0 :: []) h k z = (k + 0 ≤ 1 ∧ z + 0 ≤ 2 ∧ tX0_isIn [.long x0, .long x1, .long x2] h (fun v h => eX0_many ret F n 7 [v0, v1] (v.toList ++ ([])) h (k + 0) (z + 0))) := (amWp_dec rfl dX0_many_4 rfl).trans (amS2 (Nat.le_of_ble_eq_true rfl) (Nat.le_of_ble_eq_true rfl))
theorem wX0_many_7 {ret F n h k z} {v0 v1 st x} : eX0_many ret F (n + 1) 7 [v0, v1] (.int x :: st) h k z = ((¬ x = 0 → eX0_many ret F n 12 [v0, v1] (st) h k z) ∧ (x = 0 → eX0_many ret F n 10 [v0, v1] (st) h k z)) := (amWp_dec rfl dX0_many_7 rfl).trans rfl
theorem wX0_many_10 {ret F n h k z} {v0 v1 st} : eX0_many ret F (n + 1) 10 [v0, v1] (st) h k z = (eX0_many ret F n 11 [v0, v1] (.int (-1) :: st) h k z) := (amWp_dec rfl dX0_many_10 rfl).trans rfl
theorem wX0_many_11 {ret F n h k z} {v0 v1 x} : eX0_many ret F (n + 1) 11 [v0, v1] ([.int x]) h k z = (ret (some (.int x)) h k z) := (amWp_dec rfl dX0_many_11 rfl).trans (amTrue ⟨_, rfl, rfl⟩)
theorem wX0_many_12 {ret F n h k z} {v0 v1 st} : eX0_many ret F (n + 1) 12 [v0, v1] (st) h k z = (amIsR v0 ∧ eX0_many ret F n 13 [v0, v1] (v0 :: st) h k z) := (amWp_dec rfl dX0_many_12 rfl).trans rfl
theorem wX0_many_13 {ret F n h k z} {v0 v1 st} : eX0_many ret F (n + 1) 13 [v0, v1] (st) h k z = (amIsR v0 ∧ eX0_many ret F n 14 [v0, v1] (v0 :: st) h k z) := (amWp_dec rfl dX0_many_13 rfl).trans rfl
theorem wX0_many_14 {ret F n h k z} {v0 st x} : eX0_many ret F (n + 1) 14 [v0, .int x] (st) h k z = (eX0_many ret F n 15 [v0, .int x] (.int x :: st) h k z) := (amWp_dec rfl dX0_many_14 rfl).trans rfl
theorem wX0_many_15 {ret F n h k z} {v0 v1 x1 x0 r0} : eX0_many ret F (n + 1) 15 [v0, v1] (.int x1 :: .ref x0 :: r0 :: []) h k z = (k + 1 ≤ 1 ∧ z + 2 ≤ 2 ∧ amTdyn2 24 [.ref x0, .int x1] h (fun v h => eX0_many ret F n 20 [v0, v1] (v.toList ++ (r0 :: [])) h (k + 1) (z + 2))) := (amWp_dec rfl dX0_many_15 rfl).trans (amS2 (Nat.le_of_ble_eq_true rfl) (Nat.le_of_ble_eq_true rfl))
theorem wX0_many_20 {ret F n h k z} {v0 v1 x1 x0} : eX0_many ret F (n + 1) 20 [v0, v1] (.ref x1 :: .ref x0 :: []) h k z = (k + 0 ≤ 1 ∧ z + 0 ≤ 2 ∧ h.1 x0 = (0, 0) ∧ tX0_askAll [.ref x0, .ref x1] h (fun v h => eX0_many ret F n 23 [v0, v1] (v.toList ++ ([])) h (k + 0) (z + 0))) := (amWp_dec rfl dX0_many_20 rfl).trans (amS2 (Nat.le_of_ble_eq_true rfl) (Nat.le_of_ble_eq_true rfl))
theorem wX0_many_23 {ret F n ls st h k z} : eX0_many ret F (n + 1) 23 ls st h k z = F 23 ls st h k z := amWp_cut rfl
theorem uX0_many_23 {ret F n h k z} {v0 v1 st} : sX0_many ret F n 23 [v0, v1] (st) h k z = (amIsR v0 ∧ eX0_many ret F n 24 [v0, v1] (v0 :: st) h k z) := (amWs_dec dX0_many_23 rfl).trans rfl
theorem wX0_many_24 {ret F n h k z} {v0 v1 a} : eX0_many ret F (n + 1) 24 [v0, v1] (.ref a :: []) h k z = (k + 0 ≤ 1 ∧ z + 0 ≤ 2 ∧ h.1 a = (0, 0) ∧ eX0_many ret F n 27 [v0, v1] (.int (h.2.1 a 12) :: []) h (k + 0) (z + 0)) := (amWp_dec rfl dX0_many_24 rfl).trans (amS2 (Nat.le_of_ble_eq_true rfl) (Nat.le_of_ble_eq_true rfl))
theorem wX0_many_27 {ret F n h k z} {v0 v1 x} : eX0_many ret F (n + 1) 27 [v0, v1] ([.int x]) h k z = (ret (some (.int x)) h k z) := (amWp_dec rfl dX0_many_27 rfl).trans (amTrue ⟨_, rfl, rfl⟩)
theorem evX0_many (l : Launch) (G : amG) : ∀ pc S i sz, amLk rX0_many pc = some S → decode cX0_many pc = .ok (i, sz) → amSiteP pc G l yX0_many.cls yX0_many.name yX0_many.desc (amRm 21 1 2) i sz S.1 S.2.1 S.2.2.1 S.2.2.2 := amLk_ok (by
  refine List.forall_mem_cons.mpr ⟨⟨_, _, dX0_many_4, amSite.P (amSiteS (metX0_isIn l G) rfl (by decide) (by decide) (lw_S q382 q383 q86 q384) ⟨by decide +kernel, by decide +kernel, by decide +kernel⟩)⟩, ?_⟩
  refine List.forall_mem_cons.mpr ⟨⟨_, _, dX0_many_15, amSiteDyn223 rfl⟩, ?_⟩
  refine List.forall_mem_cons.mpr ⟨⟨_, _, dX0_many_20, amSite.P (amSiteV (C := RX0) (metX0_askAll l G) rfl (by decide) (by decide) (lw_V q474 q476 qs13 q86 q477) ⟨_, rfl, rfl⟩ ⟨rfl, by decide +kernel, by decide +kernel, by decide +kernel⟩)⟩, ?_⟩
  refine List.forall_mem_cons.mpr ⟨⟨_, _, dX0_many_24, amSite.P (amSiteGet ⟨_, rfl, by decide, Or.inl q313⟩)⟩, ?_⟩
  exact fun _ h => absurd h List.not_mem_nil)
theorem goX0_many {ret F} (hF : amCld cX0_many kX0_many (amLk rX0_many) (some .int) 1 2 ret F) (n : Nat) {pc ls st h k z} (q : sX0_many ret F n pc ls st h k z) : F pc ls st h k z := hF.1 n pc ls st h k z q
theorem metX0_many (l : Launch) (G : amG) : amMet l G yX0_many (ws_ yX0_many cX0_many 2 (some .int)) 21 1 2 tX0_many := by
  refine amMet_of (cut := kX0_many) (by decide +kernel) (evX0_many l G) ?_
  intro as h K hT
  match as, hT with
  | [.ref a, .int x], ⟨S, e1, ⟨hR, hS, hB, hX, hbo, hn⟩, hK⟩ =>
  refine ⟨Nat.le_of_ble_eq_true rfl, fun F hF => ?_⟩
  show F 0 [.ref a, .int x] [] h 0 0
  obtain ⟨a, rfl⟩ : ∃ i : Nat, i = a := ⟨_, rfl⟩
  subst e1
  have n7 := hS.n7
  refine goX0_many hF 60 ?_
  simp (disch := omega) only [wX0_many_0, uX0_many_0, wX0_many_1, wX0_many_2, wX0_many_3, wX0_many_4, wX0_many_7, wX0_many_10, wX0_many_11, wX0_many_12, wX0_many_13, wX0_many_14, wX0_many_15, wX0_many_20, wX0_many_23, uX0_many_23, wX0_many_24, wX0_many_27, amSI_1, amSI_2, amSI_3, amSI_s, amU_at, amIsR_ref, amIsR_null, amIsR_rf, amRf_some, amRf_none, amClr_int, amClr_ref, amClr_null, amClr_long, amClr_ra, amClr_rf, amFit_int, amFit_oref, amFit_aref, amFit_onull, amFit_anull, amOptSome, amOptNone, List.cons_append, List.nil_append, true_and, and_true, true_implies, not_true_eq_false, not_false_eq_true, false_implies, and_self, Nat.add_zero, Nat.zero_add, ne_eq, Prod.mk.injEq, amC01_0, amC01_1, amC01_nb, amNb0, amNb1, amTcpI_d, Nat.reduceLeDiff, Nat.reduceAdd, Nat.reduceSub, Nat.reduceEqDiff, Nat.le_refl, amN0le, hR.s, hR.r, tX0_isIn_d, amInL, amTdyn2_d]
  refine ⟨fun q => ?_, fun q => ?_⟩
  · obtain ⟨w, w0, w1, e⟩ := Classical.not_not.mp q
    subst e
    have sm : ∀ i : Nat, i < h.2.2.2.2 → amSame h (amWr (amWr (amNew h (24, 2)) h.2.2.2.2 0 (.ref 24)) h.2.2.2.2 1 (.int (nI w))) i := fun i hi => amDyn2_same hi
    have da := dyn2_at h 24 24 (nI w)
    have dn : (amWr (amWr (amNew h (24, 2)) h.2.2.2.2 0 (.ref 24)) h.2.2.2.2 1 (.int (nI w))).2.2.2.2 = h.2.2.2.2 + 1 := rfl
    generalize hhh : amWr (amWr (amNew h (24, 2)) h.2.2.2.2 0 (.ref 24)) h.2.2.2.2 1 (.int (nI w)) = hh at sm da dn
    have hsh : ∀ i : Nat, i < 124 → hh.1 i = h.1 i ∧ hh.2.2.2.1 i = h.2.2.2.1 i := fun i hi => ⟨(sm i (by omega)).1, (sm i (by omega)).2.2.2⟩
    have hmm : ∀ i : Nat, i < h.2.2.2.2 → hh.2.1 i = h.2.1 i := fun i hi => (sm i hi).2.1
    have hR' : rsAt hh := hR.mv (fun i hi => (hsh i hi).1) (fun i hi _ _ _ => (hsh i hi).2)
    have hS' : HsIs hh.2.1 25 S := hS.kept (fun i i1 i2 => hmm i (by omega))
    have hid : h.2.2.2.2 < 31 ∨ 41 ≤ h.2.2.2.2 := Or.inr (by omega)
    refine ⟨by rw [(hsh 24 (by decide)).1]; exact hR.s.1, ?_⟩
    refine askAll_of (P := fun c m => m 24 12 = nI c ∧ m h.2.2.2.2 1 = nI w) (f := manyF S w) (S := S) (s0 := 0) hR' hS' hB hX hbo ?_ ?_ ?_ ?_
    · intro s m m' q eF
      rw [eF 24 (by decide) (by decide), eF h.2.2.2.2 (by omega) (by omega)]; exact q
    · refine ⟨?_, ?_⟩
      · simp (disch := omega) only [amU_at, amU_ne, amU_nj, amU_neR, up_ne, up_at, amSI_2]
      · simp (disch := omega) only [amU_at, amU_ne, amU_nj, amU_neR, up_ne, up_at, amSI_2]
        exact da.2.2
    · intro l c m K' _ hp q kk
      refine Or.inr (Or.inl ⟨da.1, 24, da.2.1, S, l, w, c, rfl, rfl, q.2, by omega, hp, q.1, fun m' f1 f2 f3 => ?_⟩)
      have := kk m' f1 (fun j hj => f2 j (by omega)) ⟨f3, by rw [f1 h.2.2.2.2 (by omega) (by omega) (by omega) (by omega)]; exact q.2⟩
      have e1 : amC01 ((manyF S w l c).2 = true) = nI 1 := amC01_t rfl
      rw [e1] at this
      exact this
    · intro m' q1 q2
      have ans : manyA S (nI w) = nI (S.manyN w) := by
        unfold manyA
        rcases (show w = 0 ∨ w = 1 by omega) with e | e
        · subst e; rw [if_pos rfl]
        · subst e; rw [if_neg (by decide), if_pos rfl]
      have q2 : m' 24 12 = nI (S.manyN w) := q2.1
      refine goX0_many hF 60 ?_
      simp (disch := omega) only [wX0_many_0, uX0_many_0, wX0_many_1, wX0_many_2, wX0_many_3, wX0_many_4, wX0_many_7, wX0_many_10, wX0_many_11, wX0_many_12, wX0_many_13, wX0_many_14, wX0_many_15, wX0_many_20, wX0_many_23, uX0_many_23, wX0_many_24, wX0_many_27, amSI_1, amSI_2, amSI_3, amSI_s, amU_at, amIsR_ref, amIsR_null, amIsR_rf, amRf_some, amRf_none, amClr_int, amClr_ref, amClr_null, amClr_long, amClr_ra, amClr_rf, amFit_int, amFit_oref, amFit_aref, amFit_onull, amFit_anull, amOptSome, amOptNone, List.cons_append, List.nil_append, true_and, and_true, true_implies, not_true_eq_false, not_false_eq_true, false_implies, and_self, Nat.add_zero, Nat.zero_add, ne_eq, Prod.mk.injEq, amC01_0, amC01_1, amC01_nb, amNb0, amNb1, amTcpI_d, Nat.reduceLeDiff, Nat.reduceAdd, Nat.reduceSub, Nat.reduceEqDiff, Nat.le_refl, amN0le, hR.s, hR.r, hR'.s, q2]
      have := hK (amSI hh m') (q1.pFr hR hn (fun i h1 h2 h3 => sm i h1) hsh (fun j hj => by rw [hmm 24 (by omega)]) (by omega) (fun i hi => ⟨(sm i hi).1, (sm i hi).2.2.1, (sm i hi).2.2.2⟩))
      rw [ans] at this
      exact amRet.of (by decide) (by decide) this
  · have := hK h (pFr.rf hR)
    have e : manyA S x = -1 := by
      unfold manyA
      rw [if_neg (fun z => q ⟨0, by decide, by decide, z⟩), if_neg (fun z => q ⟨1, by decide, by decide, z⟩)]
    rw [e] at this
    exact amRet.of (by decide) (by decide) this
theorem tX0_many_d {a : Nat} {x : Int32} {h : amH} {K : Option Value → amH → Prop} : tX0_many [.ref a, .int x] h K = ∃ S : HS, a = (24 : Nat) ∧ askPre h S ∧ ∀ h', pFr h h' → K (some (.int (manyA S x))) h' := rfl
theorem clamp_lt (x : Int32) : x.toNatClampNeg < 2147483648 := by
  show x.toInt.toNat < 2147483648
  have := x.toInt_lt
  omega
theorem clamp_id {x : Int32} (h : ¬ x < 0) : x = nI x.toNatClampNeg := by
  apply Int32.toInt_inj.mp
  rw [nI_toInt (clamp_lt x), amNN x h]
def fitF (S : HS) (k : Nat) (l : List Nat) (B : Int32 × Option Nat) : (Int32 × Option Nat) × Bool := (fitStep S k l B, decide ((fitStep S k l B).2 = none))
/-- the order of a number that fits -/
def HS.fitN (S : HS) (k : Nat) : Option Nat := (runA (fitF S k) (allOrds S.ord.length) (nI 0, none)).1.2
def fitA (S : HS) (x : Int32) : Int32 := if x < 0 then -1 else optI (S.fitN x.toNatClampNeg)
def tX0_fit : amT := fun as h K => match as with
  | [.ref a, .int x] => ∃ S : HS, a = (24 : Nat) ∧ askPre h S ∧ ∀ h', pFr h h' → K (some (.int (fitA S x))) h'
  | _ => False
/-! ReadingStages.fit(I)I -/
def kX0_fit : Nat → Bool := fun pc => pc == 23
def rX0_fit : List (Nat × amS) := [(9, 2, 0, 0, amTput 0 13), (15, 2, 1, 2, amTdyn2 25), (20, 2, 0, 0, (amRecv 0 tX0_askAll)), (24, 1, 0, 0, amTget 0 13)]
def eX0_fit (ret : Option Value → amH → Nat → Nat → Prop) (F : amX) : Nat → amX := amWp cX0_fit kX0_fit (amLk rX0_fit) (some .int) 1 2 ret F
def sX0_fit (ret : Option Value → amH → Nat → Nat → Prop) (F : amX) : Nat → amX := amWs cX0_fit kX0_fit (amLk rX0_fit) (some .int) 1 2 ret F
theorem wX0_fit_0 {ret F n h k z} {v0 st x} : eX0_fit ret F (n + 1) 0 [v0, .int x] (st) h k z = (eX0_fit ret F n 1 [v0, .int x] (.int x :: st) h k z) := (amWp_dec rfl dX0_fit_0 rfl).trans rfl
theorem uX0_fit_0 {ret F n h k z} {v0 st x} : sX0_fit ret F n 0 [v0, .int x] (st) h k z = (eX0_fit ret F n 1 [v0, .int x] (.int x :: st) h k z) := (amWs_dec dX0_fit_0 rfl).trans rfl
theorem wX0_fit_1 {ret F n h k z} {v0 v1 st x} : eX0_fit ret F (n + 1) 1 [v0, v1] (.int x :: st) h k z = ((0 ≤ x → eX0_fit ret F n 6 [v0, v1] (st) h k z) ∧ (¬ 0 ≤ x → eX0_fit ret F n 4 [v0, v1] (st) h k z)) := (amWp_dec rfl dX0_fit_1 rfl).trans rfl
theorem wX0_fit_4 {ret F n h k z} {v0 v1 st} : eX0_fit ret F (n + 1) 4 [v0, v1] (st) h k z = (eX0_fit ret F n 5 [v0, v1] (.int (-1) :: st) h k z) := (amWp_dec rfl dX0_fit_4 rfl).trans rfl
theorem wX0_fit_5 {ret F n h k z} {v0 v1 x} : eX0_fit ret F (n + 1) 5 [v0, v1] ([.int x]) h k z = (ret (some (.int x)) h k z) := (amWp_dec rfl dX0_fit_5 rfl).trans (amTrue ⟨_, rfl, rfl⟩)
theorem wX0_fit_6 {ret F n h k z} {v0 v1 st} : eX0_fit ret F (n + 1) 6 [v0, v1] (st) h k z = (amIsR v0 ∧ eX0_fit ret F n 7 [v0, v1] (v0 :: st) h k z) := (amWp_dec rfl dX0_fit_6 rfl).trans rfl
theorem wX0_fit_7 {ret F n h k z} {v0 v1 st} : eX0_fit ret F (n + 1) 7 [v0, v1] (st) h k z = (eX0_fit ret F n 9 [v0, v1] (.int (-4) :: st) h k z) := (amWp_dec rfl dX0_fit_7 rfl).trans rfl
theorem wX0_fit_9 {ret F n h k z} {v0 v1 x a} : eX0_fit ret F (n + 1) 9 [v0, v1] (.int x :: .ref a :: []) h k z = (k + 0 ≤ 1 ∧ z + 0 ≤ 2 ∧ h.1 a = (0, 0) ∧ amN0 ≤ a ∧ amFit .int (.int x) ∧ eX0_fit ret F n 12 [v0, v1] ([]) (amSI h (amU h.2.1 a 13 x)) (k + 0) (z + 0)) := (amWp_dec rfl dX0_fit_9 rfl).trans (amS2 (Nat.le_of_ble_eq_true rfl) (Nat.le_of_ble_eq_true rfl))
theorem wX0_fit_12 {ret F n h k z} {v0 v1 st} : eX0_fit ret F (n + 1) 12 [v0, v1] (st) h k z = (amIsR v0 ∧ eX0_fit ret F n 13 [v0, v1] (v0 :: st) h k z) := (amWp_dec rfl dX0_fit_12 rfl).trans rfl
theorem wX0_fit_13 {ret F n h k z} {v0 v1 st} : eX0_fit ret F (n + 1) 13 [v0, v1] (st) h k z = (amIsR v0 ∧ eX0_fit ret F n 14 [v0, v1] (v0 :: st) h k z) := (amWp_dec rfl dX0_fit_13 rfl).trans rfl
theorem wX0_fit_14 {ret F n h k z} {v0 st x} : eX0_fit ret F (n + 1) 14 [v0, .int x] (st) h k z = (eX0_fit ret F n 15 [v0, .int x] (.int x :: st) h k z) := (amWp_dec rfl dX0_fit_14 rfl).trans rfl
theorem wX0_fit_15 {ret F n h k z} {v0 v1 x1 x0 r0} : eX0_fit ret F (n + 1) 15 [v0, v1] (.int x1 :: .ref x0 :: r0 :: []) h k z = (k + 1 ≤ 1 ∧ z + 2 ≤ 2 ∧ amTdyn2 25 [.ref x0, .int x1] h (fun v h => eX0_fit ret F n 20 [v0, v1] (v.toList ++ (r0 :: [])) h (k + 1) (z + 2))) := (amWp_dec rfl dX0_fit_15 rfl).trans (amS2 (Nat.le_of_ble_eq_true rfl) (Nat.le_of_ble_eq_true rfl))
theorem wX0_fit_20 {ret F n h k z} {v0 v1 x1 x0} : eX0_fit ret F (n + 1) 20 [v0, v1] (.ref x1 :: .ref x0 :: []) h k z = (k + 0 ≤ 1 ∧ z + 0 ≤ 2 ∧ h.1 x0 = (0, 0) ∧ tX0_askAll [.ref x0, .ref x1] h (fun v h => eX0_fit ret F n 23 [v0, v1] (v.toList ++ ([])) h (k + 0) (z + 0))) := (amWp_dec rfl dX0_fit_20 rfl).trans (amS2 (Nat.le_of_ble_eq_true rfl) (Nat.le_of_ble_eq_true rfl))
theorem wX0_fit_23 {ret F n ls st h k z} : eX0_fit ret F (n + 1) 23 ls st h k z = F 23 ls st h k z := amWp_cut rfl
theorem uX0_fit_23 {ret F n h k z} {v0 v1 st} : sX0_fit ret F n 23 [v0, v1] (st) h k z = (amIsR v0 ∧ eX0_fit ret F n 24 [v0, v1] (v0 :: st) h k z) := (amWs_dec dX0_fit_23 rfl).trans rfl
theorem wX0_fit_24 {ret F n h k z} {v0 v1 a} : eX0_fit ret F (n + 1) 24 [v0, v1] (.ref a :: []) h k z = (k + 0 ≤ 1 ∧ z + 0 ≤ 2 ∧ h.1 a = (0, 0) ∧ eX0_fit ret F n 27 [v0, v1] (.int (h.2.1 a 13) :: []) h (k + 0) (z + 0)) := (amWp_dec rfl dX0_fit_24 rfl).trans (amS2 (Nat.le_of_ble_eq_true rfl) (Nat.le_of_ble_eq_true rfl))
theorem wX0_fit_27 {ret F n h k z} {v0 v1 x} : eX0_fit ret F (n + 1) 27 [v0, v1] ([.int x]) h k z = (ret (some (.int x)) h k z) := (amWp_dec rfl dX0_fit_27 rfl).trans (amTrue ⟨_, rfl, rfl⟩)
theorem evX0_fit (l : Launch) (G : amG) : ∀ pc S i sz, amLk rX0_fit pc = some S → decode cX0_fit pc = .ok (i, sz) → amSiteP pc G l yX0_fit.cls yX0_fit.name yX0_fit.desc (amRm 21 1 2) i sz S.1 S.2.1 S.2.2.1 S.2.2.2 := amLk_ok (by
  refine List.forall_mem_cons.mpr ⟨⟨_, _, dX0_fit_9, amSite.P (amSitePut ⟨_, rfl, by decide, Or.inl q314⟩ (fun q h => by cases h; rfl))⟩, ?_⟩
  refine List.forall_mem_cons.mpr ⟨⟨_, _, dX0_fit_15, amSiteDyn229 rfl⟩, ?_⟩
  refine List.forall_mem_cons.mpr ⟨⟨_, _, dX0_fit_20, amSite.P (amSiteV (C := RX0) (metX0_askAll l G) rfl (by decide) (by decide) (lw_V q474 q476 qs13 q86 q477) ⟨_, rfl, rfl⟩ ⟨rfl, by decide +kernel, by decide +kernel, by decide +kernel⟩)⟩, ?_⟩
  refine List.forall_mem_cons.mpr ⟨⟨_, _, dX0_fit_24, amSite.P (amSiteGet ⟨_, rfl, by decide, Or.inl q314⟩)⟩, ?_⟩
  exact fun _ h => absurd h List.not_mem_nil)
theorem goX0_fit {ret F} (hF : amCld cX0_fit kX0_fit (amLk rX0_fit) (some .int) 1 2 ret F) (n : Nat) {pc ls st h k z} (q : sX0_fit ret F n pc ls st h k z) : F pc ls st h k z := hF.1 n pc ls st h k z q
theorem metX0_fit (l : Launch) (G : amG) : amMet l G yX0_fit (ws_ yX0_fit cX0_fit 2 (some .int)) 21 1 2 tX0_fit := by
  refine amMet_of (cut := kX0_fit) (by decide +kernel) (evX0_fit l G) ?_
  intro as h K hT
  match as, hT with
  | [.ref a, .int x], ⟨S, e1, ⟨hR, hS, hB, hX, hbo, hn⟩, hK⟩ =>
  refine ⟨Nat.le_of_ble_eq_true rfl, fun F hF => ?_⟩
  show F 0 [.ref a, .int x] [] h 0 0
  obtain ⟨a, rfl⟩ : ∃ i : Nat, i = a := ⟨_, rfl⟩
  subst e1
  have n7 := hS.n7
  by_cases hx : x < 0
  · have e : (0 ≤ x) = False := eq_false (fun z => by
      have z1 := Int32.le_iff_toInt_le.mp z
      have z2 := Int32.lt_iff_toInt_lt.mp hx
      have z0 : (0 : Int32).toInt = 0 := by decide
      omega)
    have := hK h (pFr.rf hR)
    rw [fitA, if_pos hx] at this
    refine goX0_fit hF 60 ?_
    simp (disch := omega) only [wX0_fit_0, uX0_fit_0, wX0_fit_1, wX0_fit_4, wX0_fit_5, wX0_fit_6, wX0_fit_7, wX0_fit_9, wX0_fit_12, wX0_fit_13, wX0_fit_14, wX0_fit_15, wX0_fit_20, wX0_fit_23, uX0_fit_23, wX0_fit_24, wX0_fit_27, amSI_1, amSI_2, amSI_3, amSI_s, amU_at, amIsR_ref, amIsR_null, amIsR_rf, amRf_some, amRf_none, amClr_int, amClr_ref, amClr_null, amClr_long, amClr_ra, amClr_rf, amFit_int, amFit_oref, amFit_aref, amFit_onull, amFit_anull, amOptSome, amOptNone, List.cons_append, List.nil_append, true_and, and_true, true_implies, not_true_eq_false, not_false_eq_true, false_implies, and_self, Nat.add_zero, Nat.zero_add, ne_eq, Prod.mk.injEq, amC01_0, amC01_1, amC01_nb, amNb0, amNb1, amTcpI_d, Nat.reduceLeDiff, Nat.reduceAdd, Nat.reduceSub, Nat.reduceEqDiff, Nat.le_refl, amN0le, hR.s, hR.r, e]
    exact amRet.of (by decide) (by decide) this
  obtain ⟨k, hk, rfl⟩ : ∃ k : Nat, k < 2147483648 ∧ x = nI k := ⟨x.toNatClampNeg, clamp_lt x, clamp_id hx⟩
  refine goX0_fit hF 60 ?_
  simp (disch := omega) only [wX0_fit_0, uX0_fit_0, wX0_fit_1, wX0_fit_4, wX0_fit_5, wX0_fit_6, wX0_fit_7, wX0_fit_9, wX0_fit_12, wX0_fit_13, wX0_fit_14, wX0_fit_15, wX0_fit_20, wX0_fit_23, uX0_fit_23, wX0_fit_24, wX0_fit_27, amSI_1, amSI_2, amSI_3, amSI_s, amU_at, amIsR_ref, amIsR_null, amIsR_rf, amRf_some, amRf_none, amClr_int, amClr_ref, amClr_null, amClr_long, amClr_ra, amClr_rf, amFit_int, amFit_oref, amFit_aref, amFit_onull, amFit_anull, amOptSome, amOptNone, List.cons_append, List.nil_append, true_and, and_true, true_implies, not_true_eq_false, not_false_eq_true, false_implies, and_self, Nat.add_zero, Nat.zero_add, ne_eq, Prod.mk.injEq, amC01_0, amC01_1, amC01_nb, amNb0, amNb1, amTcpI_d, Nat.reduceLeDiff, Nat.reduceAdd, Nat.reduceSub, Nat.reduceEqDiff, Nat.le_refl, amN0le, hR.s, hR.r, amLeI, amLtI, amEqI, amLe0, amGt0, amEq0, amNotPosI, amGe0, amVI, amCl_nI, amAdd, amSub, amMul, amTdyn2_d]
  generalize hXm : amU h.2.1 24 13 (-4) = X
  have sm : ∀ i : Nat, i < h.2.2.2.2 → amSame (amSI h X) (amWr (amWr (amNew (amSI h X) (25, 2)) h.2.2.2.2 0 (.ref 24)) h.2.2.2.2 1 (.int (nI k))) i := fun i hi => amDyn2_same (h := amSI h X) hi
  have da : (amWr (amWr (amNew (amSI h X) (25, 2)) h.2.2.2.2 0 (.ref 24)) h.2.2.2.2 1 (.int (nI k))).1 h.2.2.2.2 = (25, 2) ∧ (amWr (amWr (amNew (amSI h X) (25, 2)) h.2.2.2.2 0 (.ref 24)) h.2.2.2.2 1 (.int (nI k))).2.2.2.1 h.2.2.2.2 0 = some 24 ∧ (amWr (amWr (amNew (amSI h X) (25, 2)) h.2.2.2.2 0 (.ref 24)) h.2.2.2.2 1 (.int (nI k))).2.1 h.2.2.2.2 1 = nI k := dyn2_at (amSI h X) 25 24 (nI k)
  have dn : (amWr (amWr (amNew (amSI h X) (25, 2)) h.2.2.2.2 0 (.ref 24)) h.2.2.2.2 1 (.int (nI k))).2.2.2.2 = h.2.2.2.2 + 1 := rfl
  generalize hhh : amWr (amWr (amNew (amSI h X) (25, 2)) h.2.2.2.2 0 (.ref 24)) h.2.2.2.2 1 (.int (nI k)) = hh at sm da dn
  have hsh : ∀ i : Nat, i < 124 → hh.1 i = h.1 i ∧ hh.2.2.2.1 i = h.2.2.2.1 i := fun i hi => ⟨(sm i (by omega)).1, (sm i (by omega)).2.2.2⟩
  have hmm : ∀ i : Nat, i < h.2.2.2.2 → hh.2.1 i = X i := fun i hi => (sm i hi).2.1
  have h24 := hmm 24 (by omega)
  have hR' : rsAt hh := hR.mv (fun i hi => (hsh i hi).1) (fun i hi _ _ _ => (hsh i hi).2)
  have hS' : HsIs hh.2.1 25 S := hS.kept (fun i i1 i2 => by rw [hmm i (by omega), ← hXm]; funext j; simp (disch := omega) only [amU_at, amU_ne, amU_nj, amU_neR, up_ne, up_at, amSI_2])
  refine ⟨by rw [(hsh 24 (by decide)).1]; exact hR.s.1, ?_⟩
  have hP : ∀ l B, l.length ≤ 7 → (∀ x ∈ l, x < 7) → (∀ x, B.2 = some x → x < 2147483648) → ∀ x, (fitStep S k l B).2 = some x → x < 2147483648 := by
    intro l B l7 lx f4 x hx
    unfold fitStep at hx
    split at hx
    · simp only at hx
      split at hx
      · cases hx
        exact Nat.lt_trans (numL_small l7 lx) (by decide)
      · exact f4 x hx
    · exact f4 x hx
  refine askAll_of (P := fun B m => m 24 12 = B.1 ∧ m 24 13 = optI B.2 ∧ (∀ x, B.2 = some x → x < 2147483648) ∧ m h.2.2.2.2 1 = nI k) (f := fitF S k) (S := S) (s0 := (nI 0, none)) hR' hS' hB hX hbo ?_ ?_ ?_ ?_
  · intro s m m' q eF
    rw [eF 24 (by decide) (by decide), eF h.2.2.2.2 (by omega) (by omega)]; exact q
  · refine ⟨?_, ?_, fun x hx => (nomatch hx), ?_⟩
    · simp (disch := omega) only [amU_at, amU_ne, amU_nj, amU_neR, up_ne, up_at, amSI_2]
    · simp (disch := omega) only [amU_at, amU_ne, amU_nj, amU_neR, up_ne, up_at, amSI_2, h24]
      rw [← hXm]
      simp (disch := omega) only [amU_at, amU_ne, amU_nj, amU_neR, up_ne, up_at, amSI_2]
      rfl
    · simp (disch := omega) only [amU_at, amU_ne, amU_nj, amU_neR, up_ne, up_at, amSI_2]
      exact da.2.2
  · intro l B m K' _ hp q kk
    have hp' := hp
    obtain ⟨p1, p2, p3, p4, p5, p6, p7, p8, p9⟩ := hp'
    refine Or.inr (Or.inr (Or.inl ⟨da.1, 24, da.2.1, S, l, k, B, rfl, rfl, q.2.2.2, hk, hp, q.1, q.2.1, q.2.2.1, fun m' f1 f2 f3 f4 => ?_⟩))
    have := kk m' f1 (fun j hj => f2 j (by omega) (by omega)) ⟨f3, f4, hP l B p7.1 p7.2.1 q.2.2.1, by rw [f1 h.2.2.2.2 (by omega) (by omega) (by omega) (by omega)]; exact q.2.2.2⟩
    have e1 : amC01 ((fitF S k l B).2 = true) = amC01 ((fitStep S k l B).2 = none) := amC01_i (by simp [fitF])
    rw [e1] at this
    exact this
  · intro m' q1 q2
    have ans : fitA S (nI k) = optI (S.fitN k) := by
      unfold fitA
      rw [if_neg hx, amCl_nI hk]
    have q2 : m' 24 13 = optI (S.fitN k) := q2.2.1
    refine goX0_fit hF 60 ?_
    simp (disch := omega) only [wX0_fit_0, uX0_fit_0, wX0_fit_1, wX0_fit_4, wX0_fit_5, wX0_fit_6, wX0_fit_7, wX0_fit_9, wX0_fit_12, wX0_fit_13, wX0_fit_14, wX0_fit_15, wX0_fit_20, wX0_fit_23, uX0_fit_23, wX0_fit_24, wX0_fit_27, amSI_1, amSI_2, amSI_3, amSI_s, amU_at, amIsR_ref, amIsR_null, amIsR_rf, amRf_some, amRf_none, amClr_int, amClr_ref, amClr_null, amClr_long, amClr_ra, amClr_rf, amFit_int, amFit_oref, amFit_aref, amFit_onull, amFit_anull, amOptSome, amOptNone, List.cons_append, List.nil_append, true_and, and_true, true_implies, not_true_eq_false, not_false_eq_true, false_implies, and_self, Nat.add_zero, Nat.zero_add, ne_eq, Prod.mk.injEq, amC01_0, amC01_1, amC01_nb, amNb0, amNb1, amTcpI_d, Nat.reduceLeDiff, Nat.reduceAdd, Nat.reduceSub, Nat.reduceEqDiff, Nat.le_refl, amN0le, hR.s, hR.r, hR'.s, q2]
    have := hK (amSI hh m') (q1.pFr hR hn (fun i h1 h2 h3 => by
      refine amSame.tr (h2 := amSI h X) ⟨rfl, ?_, rfl, rfl⟩ (sm i h1)
      show X i = h.2.1 i
      rw [← hXm]
      simp (disch := omega) only [amU_at, amU_ne, amU_nj, amU_neR, up_ne, up_at, amSI_2]) hsh (fun j hj => by
      rw [h24, ← hXm]
      simp (disch := omega) only [amU_at, amU_ne, amU_nj, amU_neR, up_ne, up_at, amSI_2]) (by omega) (fun i hi => ⟨(sm i hi).1, (sm i hi).2.2.1, (sm i hi).2.2.2⟩))
    rw [ans] at this
    exact amRet.of (by decide) (by decide) this
theorem tX0_fit_d {a : Nat} {x : Int32} {h : amH} {K : Option Value → amH → Prop} : tX0_fit [.ref a, .int x] h K = ∃ S : HS, a = (24 : Nat) ∧ askPre h S ∧ ∀ h', pFr h h' → K (some (.int (fitA S x))) h' := rfl
