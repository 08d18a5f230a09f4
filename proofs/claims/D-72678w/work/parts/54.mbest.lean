/-! the reference: the best order, the grown one -/
set_option maxRecDepth 100000
/-- nothing but an order, its reading and what is best has changed -/
def mbFr (m m' : Nat → Nat → Int32) : Prop := (∀ i : Nat, i ≠ 124 → (i < 134 ∨ 141 ≤ i) → m' i = m i) ∧ ∀ j : Nat, (j < 19 ∨ 22 ≤ j) → m' 124 j = m 124 j
theorem mbFr.rf (m : Nat → Nat → Int32) : mbFr m m := ⟨fun _ _ _ => rfl, fun _ _ => rfl⟩
theorem mbFr.tr {m m2 m3 : Nat → Nat → Int32} (a : mbFr m m2) (b : mbFr m2 m3) : mbFr m m3 := ⟨fun i h1 h2 => (b.1 i h1 h2).trans (a.1 i h1 h2), fun j hj => (b.2 j hj).trans (a.2 j hj)⟩
theorem mqFr.mb {m m' : Nat → Nat → Int32} (f : mqFr m m') : mbFr m m' := ⟨fun i _ h => f i h, fun j _ => by rw [f 124 (by decide)]⟩
theorem mdSys.fb {h : amH} {S : HS} {m : Nat → Nat → Int32} (q : mdSys h S) (f : mbFr h.2.1 m) : mdSys (amSI h m) S := ⟨q.1, q.2.1.kept (f.1 125 (by omega) (by omega)), q.2.2⟩
theorem mHold {h : amH} {S : HS} {l : List Nat} {K : Option Value → amH → Prop} (hp : mdPre h S l) (k : K (some (.int (amC01 (S.holds l = true)))) h) : tX6_isHolding [.ref 124] h K := ⟨S, l, rfl, hp, k⟩
theorem mFirst {h : amH} {S : HS} {K : Option Value → amH → Prop} (q : mdSys h S) (k : ∀ m', mdPre (amSI h m') S (List.range S.ord.length) → mqFr h.2.1 m' → K none (amSI h m')) : tX6_firstOrder [.ref 124] h K := by
  refine ⟨rfl, q.1, fun m' q1 q2 => ?_⟩
  have f := mqFr.o q2
  have n7 := q.2.1.n7
  refine k m' ((q.fr f).pre (fun p hp => ?_) List.length_range (fun x hx => List.mem_range.mp hx)) f
  rw [List.length_range] at hp
  show m' 134 p = _
  rw [q1 p (by omega), List.getD_eq_getElem?_getD, List.getElem?_range hp]
  rfl
/-- on to the next order -/
theorem mNext {h : amH} {S : HS} {l : List Nat} {post : List (List Nat)} {K : Option Value → amH → Prop} (hp : mdPre h S l) (hr : isRest S.ord.length (l :: post)) (k0 : post = [] → K (some (.int (nI 0))) h) (k1 : ∀ g t, post = g :: t → ∀ m', mdPre (amSI h m') S g → mqFr h.2.1 m' → K (some (.int (nI 1))) (amSI h m')) : tX6_nextOrder [.ref 124] h K := by
  have n7 := hp.2.1.n7
  have nx := hr.nx n7
  refine ⟨l, rfl, hp.1, by rw [hp.2.2.2.2.2.2.1]; exact hp.2.1.n, by rw [hp.2.2.2.2.2.2.1]; exact n7, hp.2.2.2.2.2.1, fun x hx => by have := hp.2.2.2.2.2.2.2 x hx; omega, fun e => ?_, fun l' e m' q1 q2 => ?_⟩
  · rw [e] at nx
    cases post with
    | nil => exact k0 rfl
    | cons g t => cases nx
  · rw [e] at nx
    cases post with
    | nil => cases nx
    | cons g t =>
      cases nx
      have f := mqFr.o q2
      obtain ⟨h1, h2⟩ := hr.tl.mem n7
      exact k1 l' t rfl m' ⟨hp.1, hp.2.1.kept (f 125 (by omega)), hp.2.2.1, hp.2.2.2.1, hp.2.2.2.2.1, q1, h1, h2⟩ f
theorem isRest.first {n : Nat} (hn : n ≤ 7) : ∃ t, allOrds n = List.range n :: t ∧ isRest n (List.range n :: t) := by
  obtain ⟨t, e⟩ := allOrds_cons hn
  exact ⟨t, e, [], e⟩
theorem best_low (S : HS) : ∀ (L : List (List Nat)) (B : Nat × Nat × List Nat), (B.1 ≤ 20 ∨ ∃ l ∈ L, S.holds l = true) → (runA (bestF S) L B).1.1 ≤ 20
  | [], B, h => by
    rcases h with h | ⟨l, hl, _⟩
    · exact h
    · cases hl
  | l :: t, B, h => by
    have e : runA (bestF S) (l :: t) B = runA (bestF S) t (bestStep S l B) := by
      rw [runA]
      exact if_pos rfl
    rw [e]
    apply best_low S t
    have pk := S.peak_le l
    rcases h with h | ⟨g, hg, h2⟩
    · left
      unfold bestStep
      split
      · exact pk
      · exact h
    · rcases List.mem_cons.mp hg with z | z
      · subst z
        left
        unfold bestStep
        split
        · exact pk
        · next q =>
          simp [h2] at q
          omega
      · exact Or.inr ⟨g, z, h2⟩
theorem best_20 {S : HS} (h : hsOk S) : S.best.1 ≤ 20 := by
  obtain ⟨l, h1, h2⟩ := holds_some h
  exact best_low S _ _ (Or.inr ⟨l, (allOrds_perm h).mpr h1, h2⟩)
/-- what is best so far -/
def mbIs (m : Nat → Nat → Int32) (B : Nat × Nat × List Nat) : Prop := (m 124 19 = -4 ∧ B = (21, 0, [])) ∨ (m 124 19 = nI (numL B.2.2) ∧ numL B.2.2 < 10000000 ∧ m 124 20 = nI B.1 ∧ m 124 21 = nI B.2.1 ∧ B.1 ≤ 20 ∧ B.2.1 ≤ 140)
theorem mbIs.kept {m m' : Nat → Nat → Int32} {B : Nat × Nat × List Nat} (h : mbIs m B) (f : mqFr m m') : mbIs m' B := by
  unfold mbIs
  rw [f 124 (by decide)]
  exact h
theorem n1ne : (nI 1 = 0) = False := eq_false (by decide)
theorem n0eq : (nI 0 = 0) = True := eq_true (by decide)
theorem mdPre.mv {h : amH} {S : HS} {l : List Nat} {m m' : Nat → Nat → Int32} (q : mdPre (amSI h m) S l) (e1 : m' 125 = m 125) (e2 : m' 134 = m 134) : mdPre (amSI h m') S l := ⟨q.1, q.2.1.kept e1, q.2.2.1, q.2.2.2.1, q.2.2.2.2.1, q.2.2.2.2.2.1.kept e2, q.2.2.2.2.2.2⟩
theorem n4neg : ((-4 : Int32) < 0) = True := eq_true (by decide)
def tX6_laysBest : amT := fun as h K => match as with
  | [.ref a] => ∃ S : HS, a = (124 : Nat) ∧ mdSys h S ∧ ∀ m', mbFr h.2.1 m' → m' 124 19 = nI (numL S.best.2.2) → m' 124 20 = nI S.best.1 → m' 124 21 = nI S.best.2.1 → K none (amSI h m')
  | _ => False
/-! ReadingStagesModel.laysBest()V -/
def kX6_laysBest : Nat → Bool := fun pc => pc == 10 || pc == 12 || pc == 27 || pc == 68 || pc == 86 || pc == 90
def rX6_laysBest : List (Nat × amS) := [(3, 2, 0, 0, amTput 6 19), (7, 1, 0, 0, (amRecv 6 tX6_firstOrder)), (17, 1, 0, 0, (amRecv 6 tX6_isHolding)), (24, 1, 0, 0, (amRecv 6 tX6_readsOrder)), (28, 1, 0, 0, (amRecv 6 tX6_peak)), (33, 1, 0, 0, (amRecv 6 tX6_loss)), (38, 1, 0, 0, amTget 6 19), (46, 1, 0, 0, amTget 6 20), (54, 1, 0, 0, amTget 6 20), (62, 1, 0, 0, amTget 6 21), (70, 1, 0, 0, (amRecv 6 tX6_number)), (73, 2, 0, 0, amTput 6 19), (78, 2, 0, 0, amTput 6 20), (83, 2, 0, 0, amTput 6 21), (87, 1, 0, 0, (amRecv 6 tX6_nextOrder))]
def eX6_laysBest (ret : Option Value → amH → Nat → Nat → Prop) (F : amX) : Nat → amX := amWp cX6_laysBest kX6_laysBest (amLk rX6_laysBest) none 0 0 ret F
def sX6_laysBest (ret : Option Value → amH → Nat → Nat → Prop) (F : amX) : Nat → amX := amWs cX6_laysBest kX6_laysBest (amLk rX6_laysBest) none 0 0 ret F
theorem wX6_laysBest_0 {ret F n h} {v0 v1 v2 v3 st} : eX6_laysBest ret F (n + 1) 0 [v0, v1, v2, v3] (st) h 0 0 = (amIsR v0 ∧ eX6_laysBest ret F n 1 [v0, v1, v2, v3] (v0 :: st) h 0 0) := (amWp_dec rfl dX6_laysBest_0 rfl).trans rfl
theorem uX6_laysBest_0 {ret F n h} {v0 v1 v2 v3 st} : sX6_laysBest ret F n 0 [v0, v1, v2, v3] (st) h 0 0 = (amIsR v0 ∧ eX6_laysBest ret F n 1 [v0, v1, v2, v3] (v0 :: st) h 0 0) := (amWs_dec dX6_laysBest_0 rfl).trans rfl
theorem wX6_laysBest_1 {ret F n h} {v0 v1 v2 v3 st} : eX6_laysBest ret F (n + 1) 1 [v0, v1, v2, v3] (st) h 0 0 = (eX6_laysBest ret F n 3 [v0, v1, v2, v3] (.int (-4) :: st) h 0 0) := (amWp_dec rfl dX6_laysBest_1 rfl).trans rfl
theorem wX6_laysBest_3 {ret F n h} {v0 v1 v2 v3 x a} : eX6_laysBest ret F (n + 1) 3 [v0, v1, v2, v3] (.int x :: .ref a :: []) h 0 0 = (h.1 a = (0, 6) ∧ amN0 ≤ a ∧ amFit .int (.int x) ∧ eX6_laysBest ret F n 6 [v0, v1, v2, v3] ([]) (amSI h (amU h.2.1 a 19 x)) 0 0) := (amWp_dec rfl dX6_laysBest_3 rfl).trans (amS4 (Nat.le_of_ble_eq_true rfl) (Nat.le_of_ble_eq_true rfl) (Nat.le_of_ble_eq_true rfl) (Nat.le_of_ble_eq_true rfl))
theorem wX6_laysBest_6 {ret F n h} {v0 v1 v2 v3 st} : eX6_laysBest ret F (n + 1) 6 [v0, v1, v2, v3] (st) h 0 0 = (amIsR v0 ∧ eX6_laysBest ret F n 7 [v0, v1, v2, v3] (v0 :: st) h 0 0) := (amWp_dec rfl dX6_laysBest_6 rfl).trans rfl
theorem wX6_laysBest_7 {ret F n h} {v0 v1 v2 v3 x0} : eX6_laysBest ret F (n + 1) 7 [v0, v1, v2, v3] (.ref x0 :: []) h 0 0 = (h.1 x0 = (0, 6) ∧ tX6_firstOrder [.ref x0] h (fun v h => eX6_laysBest ret F n 10 [v0, v1, v2, v3] (v.toList ++ ([])) h 0 0)) := (amWp_dec rfl dX6_laysBest_7 rfl).trans (amS4 (Nat.le_of_ble_eq_true rfl) (Nat.le_of_ble_eq_true rfl) (Nat.le_of_ble_eq_true rfl) (Nat.le_of_ble_eq_true rfl))
theorem wX6_laysBest_10 {ret F n ls st h k z} : eX6_laysBest ret F (n + 1) 10 ls st h k z = F 10 ls st h k z := amWp_cut rfl
theorem uX6_laysBest_10 {ret F n h} {v0 v1 v2 v3 st} : sX6_laysBest ret F n 10 [v0, v1, v2, v3] (st) h 0 0 = (eX6_laysBest ret F n 11 [v0, v1, v2, v3] (.int (nI 1) :: st) h 0 0) := (amWs_dec dX6_laysBest_10 rfl).trans rfl
theorem wX6_laysBest_11 {ret F n h} {v0 v1 v2 v3 st x} : eX6_laysBest ret F (n + 1) 11 [v0, v1, v2, v3] (.int x :: st) h 0 0 = (eX6_laysBest ret F n 12 [amClr v0, .int x, v2, v3] (st) h 0 0) := (amWp_dec rfl dX6_laysBest_11 rfl).trans (amTrue (Nat.le_of_ble_eq_true rfl))
theorem wX6_laysBest_12 {ret F n ls st h k z} : eX6_laysBest ret F (n + 1) 12 ls st h k z = F 12 ls st h k z := amWp_cut rfl
theorem uX6_laysBest_12 {ret F n h} {v0 v2 v3 st x} : sX6_laysBest ret F n 12 [v0, .int x, v2, v3] (st) h 0 0 = (eX6_laysBest ret F n 13 [v0, .int x, v2, v3] (.int x :: st) h 0 0) := (amWs_dec dX6_laysBest_12 rfl).trans rfl
theorem wX6_laysBest_13 {ret F n h} {v0 v1 v2 v3 st x} : eX6_laysBest ret F (n + 1) 13 [v0, v1, v2, v3] (.int x :: st) h 0 0 = ((x = 0 → eX6_laysBest ret F n 94 [v0, v1, v2, v3] (st) h 0 0) ∧ (¬ x = 0 → eX6_laysBest ret F n 16 [v0, v1, v2, v3] (st) h 0 0)) := (amWp_dec rfl dX6_laysBest_13 rfl).trans rfl
theorem wX6_laysBest_16 {ret F n h} {v0 v1 v2 v3 st} : eX6_laysBest ret F (n + 1) 16 [v0, v1, v2, v3] (st) h 0 0 = (amIsR v0 ∧ eX6_laysBest ret F n 17 [v0, v1, v2, v3] (v0 :: st) h 0 0) := (amWp_dec rfl dX6_laysBest_16 rfl).trans rfl
theorem wX6_laysBest_17 {ret F n h} {v0 v1 v2 v3 x0} : eX6_laysBest ret F (n + 1) 17 [v0, v1, v2, v3] (.ref x0 :: []) h 0 0 = (h.1 x0 = (0, 6) ∧ tX6_isHolding [.ref x0] h (fun v h => eX6_laysBest ret F n 20 [v0, v1, v2, v3] (v.toList ++ ([])) h 0 0)) := (amWp_dec rfl dX6_laysBest_17 rfl).trans (amS4 (Nat.le_of_ble_eq_true rfl) (Nat.le_of_ble_eq_true rfl) (Nat.le_of_ble_eq_true rfl) (Nat.le_of_ble_eq_true rfl))
theorem wX6_laysBest_20 {ret F n h} {v0 v1 v2 v3 st x} : eX6_laysBest ret F (n + 1) 20 [v0, v1, v2, v3] (.int x :: st) h 0 0 = ((x = 0 → eX6_laysBest ret F n 86 [v0, v1, v2, v3] (st) h 0 0) ∧ (¬ x = 0 → eX6_laysBest ret F n 23 [v0, v1, v2, v3] (st) h 0 0)) := (amWp_dec rfl dX6_laysBest_20 rfl).trans rfl
theorem wX6_laysBest_23 {ret F n h} {v0 v1 v2 v3 st} : eX6_laysBest ret F (n + 1) 23 [v0, v1, v2, v3] (st) h 0 0 = (amIsR v0 ∧ eX6_laysBest ret F n 24 [v0, v1, v2, v3] (v0 :: st) h 0 0) := (amWp_dec rfl dX6_laysBest_23 rfl).trans rfl
theorem wX6_laysBest_24 {ret F n h} {v0 v1 v2 v3 x0} : eX6_laysBest ret F (n + 1) 24 [v0, v1, v2, v3] (.ref x0 :: []) h 0 0 = (h.1 x0 = (0, 6) ∧ tX6_readsOrder [.ref x0] h (fun v h => eX6_laysBest ret F n 27 [v0, v1, v2, v3] (v.toList ++ ([])) h 0 0)) := (amWp_dec rfl dX6_laysBest_24 rfl).trans (amS4 (Nat.le_of_ble_eq_true rfl) (Nat.le_of_ble_eq_true rfl) (Nat.le_of_ble_eq_true rfl) (Nat.le_of_ble_eq_true rfl))
theorem wX6_laysBest_27 {ret F n ls st h k z} : eX6_laysBest ret F (n + 1) 27 ls st h k z = F 27 ls st h k z := amWp_cut rfl
theorem uX6_laysBest_27 {ret F n h} {v0 v1 v2 v3 st} : sX6_laysBest ret F n 27 [v0, v1, v2, v3] (st) h 0 0 = (amIsR v0 ∧ eX6_laysBest ret F n 28 [v0, v1, v2, v3] (v0 :: st) h 0 0) := (amWs_dec dX6_laysBest_27 rfl).trans rfl
theorem wX6_laysBest_28 {ret F n h} {v0 v1 v2 v3 x0} : eX6_laysBest ret F (n + 1) 28 [v0, v1, v2, v3] (.ref x0 :: []) h 0 0 = (h.1 x0 = (0, 6) ∧ tX6_peak [.ref x0] h (fun v h => eX6_laysBest ret F n 31 [v0, v1, v2, v3] (v.toList ++ ([])) h 0 0)) := (amWp_dec rfl dX6_laysBest_28 rfl).trans (amS4 (Nat.le_of_ble_eq_true rfl) (Nat.le_of_ble_eq_true rfl) (Nat.le_of_ble_eq_true rfl) (Nat.le_of_ble_eq_true rfl))
theorem wX6_laysBest_31 {ret F n h} {v0 v1 v2 v3 st x} : eX6_laysBest ret F (n + 1) 31 [v0, v1, v2, v3] (.int x :: st) h 0 0 = (eX6_laysBest ret F n 32 [v0, amClr v1, .int x, v3] (st) h 0 0) := (amWp_dec rfl dX6_laysBest_31 rfl).trans (amTrue (Nat.le_of_ble_eq_true rfl))
theorem wX6_laysBest_32 {ret F n h} {v0 v1 v2 v3 st} : eX6_laysBest ret F (n + 1) 32 [v0, v1, v2, v3] (st) h 0 0 = (amIsR v0 ∧ eX6_laysBest ret F n 33 [v0, v1, v2, v3] (v0 :: st) h 0 0) := (amWp_dec rfl dX6_laysBest_32 rfl).trans rfl
theorem wX6_laysBest_33 {ret F n h} {v0 v1 v2 v3 x0} : eX6_laysBest ret F (n + 1) 33 [v0, v1, v2, v3] (.ref x0 :: []) h 0 0 = (h.1 x0 = (0, 6) ∧ tX6_loss [.ref x0] h (fun v h => eX6_laysBest ret F n 36 [v0, v1, v2, v3] (v.toList ++ ([])) h 0 0)) := (amWp_dec rfl dX6_laysBest_33 rfl).trans (amS4 (Nat.le_of_ble_eq_true rfl) (Nat.le_of_ble_eq_true rfl) (Nat.le_of_ble_eq_true rfl) (Nat.le_of_ble_eq_true rfl))
theorem wX6_laysBest_36 {ret F n h} {v0 v1 v2 v3 st x} : eX6_laysBest ret F (n + 1) 36 [v0, v1, v2, v3] (.int x :: st) h 0 0 = (eX6_laysBest ret F n 37 [v0, v1, amClr v2, .int x] (st) h 0 0) := (amWp_dec rfl dX6_laysBest_36 rfl).trans (amTrue (Nat.le_of_ble_eq_true rfl))
theorem wX6_laysBest_37 {ret F n h} {v0 v1 v2 v3 st} : eX6_laysBest ret F (n + 1) 37 [v0, v1, v2, v3] (st) h 0 0 = (amIsR v0 ∧ eX6_laysBest ret F n 38 [v0, v1, v2, v3] (v0 :: st) h 0 0) := (amWp_dec rfl dX6_laysBest_37 rfl).trans rfl
theorem wX6_laysBest_38 {ret F n h} {v0 v1 v2 v3 a} : eX6_laysBest ret F (n + 1) 38 [v0, v1, v2, v3] (.ref a :: []) h 0 0 = (h.1 a = (0, 6) ∧ eX6_laysBest ret F n 41 [v0, v1, v2, v3] (.int (h.2.1 a 19) :: []) h 0 0) := (amWp_dec rfl dX6_laysBest_38 rfl).trans (amS4 (Nat.le_of_ble_eq_true rfl) (Nat.le_of_ble_eq_true rfl) (Nat.le_of_ble_eq_true rfl) (Nat.le_of_ble_eq_true rfl))
theorem wX6_laysBest_41 {ret F n h} {v0 v1 v2 v3 st x} : eX6_laysBest ret F (n + 1) 41 [v0, v1, v2, v3] (.int x :: st) h 0 0 = ((x < 0 → eX6_laysBest ret F n 68 [v0, v1, v2, v3] (st) h 0 0) ∧ (¬ x < 0 → eX6_laysBest ret F n 44 [v0, v1, v2, v3] (st) h 0 0)) := (amWp_dec rfl dX6_laysBest_41 rfl).trans rfl
theorem wX6_laysBest_44 {ret F n h} {v0 v1 v3 st x} : eX6_laysBest ret F (n + 1) 44 [v0, v1, .int x, v3] (st) h 0 0 = (eX6_laysBest ret F n 45 [v0, v1, .int x, v3] (.int x :: st) h 0 0) := (amWp_dec rfl dX6_laysBest_44 rfl).trans rfl
theorem wX6_laysBest_45 {ret F n h} {v0 v1 v2 v3 st} : eX6_laysBest ret F (n + 1) 45 [v0, v1, v2, v3] (st) h 0 0 = (amIsR v0 ∧ eX6_laysBest ret F n 46 [v0, v1, v2, v3] (v0 :: st) h 0 0) := (amWp_dec rfl dX6_laysBest_45 rfl).trans rfl
theorem wX6_laysBest_46 {ret F n h} {v0 v1 v2 v3 r0 a} : eX6_laysBest ret F (n + 1) 46 [v0, v1, v2, v3] (.ref a :: r0 :: []) h 0 0 = (h.1 a = (0, 6) ∧ eX6_laysBest ret F n 49 [v0, v1, v2, v3] (.int (h.2.1 a 20) :: r0 :: []) h 0 0) := (amWp_dec rfl dX6_laysBest_46 rfl).trans (amS4 (Nat.le_of_ble_eq_true rfl) (Nat.le_of_ble_eq_true rfl) (Nat.le_of_ble_eq_true rfl) (Nat.le_of_ble_eq_true rfl))
theorem wX6_laysBest_49 {ret F n h} {v0 v1 v2 v3 st y x} : eX6_laysBest ret F (n + 1) 49 [v0, v1, v2, v3] (.int y :: .int x :: st) h 0 0 = ((x < y → eX6_laysBest ret F n 68 [v0, v1, v2, v3] (st) h 0 0) ∧ (¬ x < y → eX6_laysBest ret F n 52 [v0, v1, v2, v3] (st) h 0 0)) := (amWp_dec rfl dX6_laysBest_49 rfl).trans rfl
theorem wX6_laysBest_52 {ret F n h} {v0 v1 v3 st x} : eX6_laysBest ret F (n + 1) 52 [v0, v1, .int x, v3] (st) h 0 0 = (eX6_laysBest ret F n 53 [v0, v1, .int x, v3] (.int x :: st) h 0 0) := (amWp_dec rfl dX6_laysBest_52 rfl).trans rfl
theorem wX6_laysBest_53 {ret F n h} {v0 v1 v2 v3 st} : eX6_laysBest ret F (n + 1) 53 [v0, v1, v2, v3] (st) h 0 0 = (amIsR v0 ∧ eX6_laysBest ret F n 54 [v0, v1, v2, v3] (v0 :: st) h 0 0) := (amWp_dec rfl dX6_laysBest_53 rfl).trans rfl
theorem wX6_laysBest_54 {ret F n h} {v0 v1 v2 v3 r0 a} : eX6_laysBest ret F (n + 1) 54 [v0, v1, v2, v3] (.ref a :: r0 :: []) h 0 0 = (h.1 a = (0, 6) ∧ eX6_laysBest ret F n 57 [v0, v1, v2, v3] (.int (h.2.1 a 20) :: r0 :: []) h 0 0) := (amWp_dec rfl dX6_laysBest_54 rfl).trans (amS4 (Nat.le_of_ble_eq_true rfl) (Nat.le_of_ble_eq_true rfl) (Nat.le_of_ble_eq_true rfl) (Nat.le_of_ble_eq_true rfl))
theorem wX6_laysBest_57 {ret F n h} {v0 v1 v2 v3 st y x} : eX6_laysBest ret F (n + 1) 57 [v0, v1, v2, v3] (.int y :: .int x :: st) h 0 0 = ((¬ x = y → eX6_laysBest ret F n 86 [v0, v1, v2, v3] (st) h 0 0) ∧ (x = y → eX6_laysBest ret F n 60 [v0, v1, v2, v3] (st) h 0 0)) := (amWp_dec rfl dX6_laysBest_57 rfl).trans rfl
theorem wX6_laysBest_60 {ret F n h} {v0 v1 v2 st x} : eX6_laysBest ret F (n + 1) 60 [v0, v1, v2, .int x] (st) h 0 0 = (eX6_laysBest ret F n 61 [v0, v1, v2, .int x] (.int x :: st) h 0 0) := (amWp_dec rfl dX6_laysBest_60 rfl).trans rfl
theorem wX6_laysBest_61 {ret F n h} {v0 v1 v2 v3 st} : eX6_laysBest ret F (n + 1) 61 [v0, v1, v2, v3] (st) h 0 0 = (amIsR v0 ∧ eX6_laysBest ret F n 62 [v0, v1, v2, v3] (v0 :: st) h 0 0) := (amWp_dec rfl dX6_laysBest_61 rfl).trans rfl
theorem wX6_laysBest_62 {ret F n h} {v0 v1 v2 v3 r0 a} : eX6_laysBest ret F (n + 1) 62 [v0, v1, v2, v3] (.ref a :: r0 :: []) h 0 0 = (h.1 a = (0, 6) ∧ eX6_laysBest ret F n 65 [v0, v1, v2, v3] (.int (h.2.1 a 21) :: r0 :: []) h 0 0) := (amWp_dec rfl dX6_laysBest_62 rfl).trans (amS4 (Nat.le_of_ble_eq_true rfl) (Nat.le_of_ble_eq_true rfl) (Nat.le_of_ble_eq_true rfl) (Nat.le_of_ble_eq_true rfl))
theorem wX6_laysBest_65 {ret F n h} {v0 v1 v2 v3 st y x} : eX6_laysBest ret F (n + 1) 65 [v0, v1, v2, v3] (.int y :: .int x :: st) h 0 0 = ((y ≤ x → eX6_laysBest ret F n 86 [v0, v1, v2, v3] (st) h 0 0) ∧ (¬ y ≤ x → eX6_laysBest ret F n 68 [v0, v1, v2, v3] (st) h 0 0)) := (amWp_dec rfl dX6_laysBest_65 rfl).trans rfl
theorem wX6_laysBest_68 {ret F n ls st h k z} : eX6_laysBest ret F (n + 1) 68 ls st h k z = F 68 ls st h k z := amWp_cut rfl
theorem uX6_laysBest_68 {ret F n h} {v0 v1 v2 v3 st} : sX6_laysBest ret F n 68 [v0, v1, v2, v3] (st) h 0 0 = (amIsR v0 ∧ eX6_laysBest ret F n 69 [v0, v1, v2, v3] (v0 :: st) h 0 0) := (amWs_dec dX6_laysBest_68 rfl).trans rfl
theorem wX6_laysBest_69 {ret F n h} {v0 v1 v2 v3 st} : eX6_laysBest ret F (n + 1) 69 [v0, v1, v2, v3] (st) h 0 0 = (amIsR v0 ∧ eX6_laysBest ret F n 70 [v0, v1, v2, v3] (v0 :: st) h 0 0) := (amWp_dec rfl dX6_laysBest_69 rfl).trans rfl
theorem wX6_laysBest_70 {ret F n h} {v0 v1 v2 v3 x0 r0} : eX6_laysBest ret F (n + 1) 70 [v0, v1, v2, v3] (.ref x0 :: r0 :: []) h 0 0 = (h.1 x0 = (0, 6) ∧ tX6_number [.ref x0] h (fun v h => eX6_laysBest ret F n 73 [v0, v1, v2, v3] (v.toList ++ (r0 :: [])) h 0 0)) := (amWp_dec rfl dX6_laysBest_70 rfl).trans (amS4 (Nat.le_of_ble_eq_true rfl) (Nat.le_of_ble_eq_true rfl) (Nat.le_of_ble_eq_true rfl) (Nat.le_of_ble_eq_true rfl))
theorem wX6_laysBest_73 {ret F n h} {v0 v1 v2 v3 x a} : eX6_laysBest ret F (n + 1) 73 [v0, v1, v2, v3] (.int x :: .ref a :: []) h 0 0 = (h.1 a = (0, 6) ∧ amN0 ≤ a ∧ amFit .int (.int x) ∧ eX6_laysBest ret F n 76 [v0, v1, v2, v3] ([]) (amSI h (amU h.2.1 a 19 x)) 0 0) := (amWp_dec rfl dX6_laysBest_73 rfl).trans (amS4 (Nat.le_of_ble_eq_true rfl) (Nat.le_of_ble_eq_true rfl) (Nat.le_of_ble_eq_true rfl) (Nat.le_of_ble_eq_true rfl))
theorem wX6_laysBest_76 {ret F n h} {v0 v1 v2 v3 st} : eX6_laysBest ret F (n + 1) 76 [v0, v1, v2, v3] (st) h 0 0 = (amIsR v0 ∧ eX6_laysBest ret F n 77 [v0, v1, v2, v3] (v0 :: st) h 0 0) := (amWp_dec rfl dX6_laysBest_76 rfl).trans rfl
theorem wX6_laysBest_77 {ret F n h} {v0 v1 v3 st x} : eX6_laysBest ret F (n + 1) 77 [v0, v1, .int x, v3] (st) h 0 0 = (eX6_laysBest ret F n 78 [v0, v1, .int x, v3] (.int x :: st) h 0 0) := (amWp_dec rfl dX6_laysBest_77 rfl).trans rfl
theorem wX6_laysBest_78 {ret F n h} {v0 v1 v2 v3 x a} : eX6_laysBest ret F (n + 1) 78 [v0, v1, v2, v3] (.int x :: .ref a :: []) h 0 0 = (h.1 a = (0, 6) ∧ amN0 ≤ a ∧ amFit .int (.int x) ∧ eX6_laysBest ret F n 81 [v0, v1, v2, v3] ([]) (amSI h (amU h.2.1 a 20 x)) 0 0) := (amWp_dec rfl dX6_laysBest_78 rfl).trans (amS4 (Nat.le_of_ble_eq_true rfl) (Nat.le_of_ble_eq_true rfl) (Nat.le_of_ble_eq_true rfl) (Nat.le_of_ble_eq_true rfl))
theorem wX6_laysBest_81 {ret F n h} {v0 v1 v2 v3 st} : eX6_laysBest ret F (n + 1) 81 [v0, v1, v2, v3] (st) h 0 0 = (amIsR v0 ∧ eX6_laysBest ret F n 82 [v0, v1, v2, v3] (v0 :: st) h 0 0) := (amWp_dec rfl dX6_laysBest_81 rfl).trans rfl
theorem wX6_laysBest_82 {ret F n h} {v0 v1 v2 st x} : eX6_laysBest ret F (n + 1) 82 [v0, v1, v2, .int x] (st) h 0 0 = (eX6_laysBest ret F n 83 [v0, v1, v2, .int x] (.int x :: st) h 0 0) := (amWp_dec rfl dX6_laysBest_82 rfl).trans rfl
theorem wX6_laysBest_83 {ret F n h} {v0 v1 v2 v3 x a} : eX6_laysBest ret F (n + 1) 83 [v0, v1, v2, v3] (.int x :: .ref a :: []) h 0 0 = (h.1 a = (0, 6) ∧ amN0 ≤ a ∧ amFit .int (.int x) ∧ eX6_laysBest ret F n 86 [v0, v1, v2, v3] ([]) (amSI h (amU h.2.1 a 21 x)) 0 0) := (amWp_dec rfl dX6_laysBest_83 rfl).trans (amS4 (Nat.le_of_ble_eq_true rfl) (Nat.le_of_ble_eq_true rfl) (Nat.le_of_ble_eq_true rfl) (Nat.le_of_ble_eq_true rfl))
theorem wX6_laysBest_86 {ret F n ls st h k z} : eX6_laysBest ret F (n + 1) 86 ls st h k z = F 86 ls st h k z := amWp_cut rfl
theorem uX6_laysBest_86 {ret F n h} {v0 v1 v2 v3 st} : sX6_laysBest ret F n 86 [v0, v1, v2, v3] (st) h 0 0 = (amIsR v0 ∧ eX6_laysBest ret F n 87 [v0, v1, v2, v3] (v0 :: st) h 0 0) := (amWs_dec dX6_laysBest_86 rfl).trans rfl
theorem wX6_laysBest_87 {ret F n h} {v0 v1 v2 v3 x0} : eX6_laysBest ret F (n + 1) 87 [v0, v1, v2, v3] (.ref x0 :: []) h 0 0 = (h.1 x0 = (0, 6) ∧ tX6_nextOrder [.ref x0] h (fun v h => eX6_laysBest ret F n 90 [v0, v1, v2, v3] (v.toList ++ ([])) h 0 0)) := (amWp_dec rfl dX6_laysBest_87 rfl).trans (amS4 (Nat.le_of_ble_eq_true rfl) (Nat.le_of_ble_eq_true rfl) (Nat.le_of_ble_eq_true rfl) (Nat.le_of_ble_eq_true rfl))
theorem wX6_laysBest_90 {ret F n ls st h k z} : eX6_laysBest ret F (n + 1) 90 ls st h k z = F 90 ls st h k z := amWp_cut rfl
theorem uX6_laysBest_90 {ret F n h} {v0 v1 v2 v3 st x} : sX6_laysBest ret F n 90 [v0, v1, v2, v3] (.int x :: st) h 0 0 = (eX6_laysBest ret F n 91 [amClr v0, .int x, v2, v3] (st) h 0 0) := (amWs_dec dX6_laysBest_90 rfl).trans (amTrue (Nat.le_of_ble_eq_true rfl))
theorem wX6_laysBest_91 {ret F n h} {v0 v1 v2 v3 st} : eX6_laysBest ret F (n + 1) 91 [v0, v1, v2, v3] (st) h 0 0 = (eX6_laysBest ret F n 12 [v0, v1, v2, v3] (st) h 0 0) := (amWp_dec rfl dX6_laysBest_91 rfl).trans rfl
theorem wX6_laysBest_94 {ret F n h} {v0 v1 v2 v3} : eX6_laysBest ret F (n + 1) 94 [v0, v1, v2, v3] ([]) h 0 0 = (ret none h 0 0) := (amWp_dec rfl dX6_laysBest_94 rfl).trans (amTrue rfl)
theorem evX6_laysBest (l : Launch) (G : amG) : ∀ pc S i sz, amLk rX6_laysBest pc = some S → decode cX6_laysBest pc = .ok (i, sz) → amSiteP pc G l yX6_laysBest.cls yX6_laysBest.name yX6_laysBest.desc (amRm 4 0 0) i sz S.1 S.2.1 S.2.2.1 S.2.2.2 := amLk_ok (by
  refine List.forall_mem_cons.mpr ⟨⟨_, _, dX6_laysBest_3, amSite.P (amSitePut ⟨_, rfl, by decide, Or.inl q1314⟩ (fun q h => by cases h; rfl))⟩, ?_⟩
  refine List.forall_mem_cons.mpr ⟨⟨_, _, dX6_laysBest_7, amSite.P (amSiteV (C := RX6) (metX6_firstOrder l G) rfl (by decide) (by decide) (lw_V q1464 q1466 qs54 q94 q1467) ⟨_, rfl, rfl⟩ ⟨rfl, by decide +kernel, by decide +kernel, by decide +kernel⟩)⟩, ?_⟩
  refine List.forall_mem_cons.mpr ⟨⟨_, _, dX6_laysBest_17, amSite.P (amSiteV (C := RX6) (metX6_isHolding l G) rfl (by decide) (by decide) (lw_V q1451 q1453 qs52 q94 q1454) ⟨_, rfl, rfl⟩ ⟨rfl, by decide +kernel, by decide +kernel, by decide +kernel⟩)⟩, ?_⟩
  refine List.forall_mem_cons.mpr ⟨⟨_, _, dX6_laysBest_24, amSite.P (amSiteV (C := RX6) (metX6_readsOrder l G) rfl (by decide) (by decide) (lw_V q1388 q1390 qs41 q94 q1391) ⟨_, rfl, rfl⟩ ⟨rfl, by decide +kernel, by decide +kernel, by decide +kernel⟩)⟩, ?_⟩
  refine List.forall_mem_cons.mpr ⟨⟨_, _, dX6_laysBest_28, amSite.P (amSiteV (C := RX6) (metX6_peak l G) rfl (by decide) (by decide) (lw_V q1443 q1445 qs50 q94 q1446) ⟨_, rfl, rfl⟩ ⟨rfl, by decide +kernel, by decide +kernel, by decide +kernel⟩)⟩, ?_⟩
  refine List.forall_mem_cons.mpr ⟨⟨_, _, dX6_laysBest_33, amSite.P (amSiteV (C := RX6) (metX6_loss l G) rfl (by decide) (by decide) (lw_V q1447 q1449 qs51 q94 q1450) ⟨_, rfl, rfl⟩ ⟨rfl, by decide +kernel, by decide +kernel, by decide +kernel⟩)⟩, ?_⟩
  refine List.forall_mem_cons.mpr ⟨⟨_, _, dX6_laysBest_38, amSite.P (amSiteGet ⟨_, rfl, by decide, Or.inl q1314⟩)⟩, ?_⟩
  refine List.forall_mem_cons.mpr ⟨⟨_, _, dX6_laysBest_46, amSite.P (amSiteGet ⟨_, rfl, by decide, Or.inl q1315⟩)⟩, ?_⟩
  refine List.forall_mem_cons.mpr ⟨⟨_, _, dX6_laysBest_54, amSite.P (amSiteGet ⟨_, rfl, by decide, Or.inl q1315⟩)⟩, ?_⟩
  refine List.forall_mem_cons.mpr ⟨⟨_, _, dX6_laysBest_62, amSite.P (amSiteGet ⟨_, rfl, by decide, Or.inl q1316⟩)⟩, ?_⟩
  refine List.forall_mem_cons.mpr ⟨⟨_, _, dX6_laysBest_70, amSite.P (amSiteV (C := RX6) (metX6_number l G) rfl (by decide) (by decide) (lw_V q1439 q1441 qs49 q94 q1442) ⟨_, rfl, rfl⟩ ⟨rfl, by decide +kernel, by decide +kernel, by decide +kernel⟩)⟩, ?_⟩
  refine List.forall_mem_cons.mpr ⟨⟨_, _, dX6_laysBest_73, amSite.P (amSitePut ⟨_, rfl, by decide, Or.inl q1314⟩ (fun q h => by cases h; rfl))⟩, ?_⟩
  refine List.forall_mem_cons.mpr ⟨⟨_, _, dX6_laysBest_78, amSite.P (amSitePut ⟨_, rfl, by decide, Or.inl q1315⟩ (fun q h => by cases h; rfl))⟩, ?_⟩
  refine List.forall_mem_cons.mpr ⟨⟨_, _, dX6_laysBest_83, amSite.P (amSitePut ⟨_, rfl, by decide, Or.inl q1316⟩ (fun q h => by cases h; rfl))⟩, ?_⟩
  refine List.forall_mem_cons.mpr ⟨⟨_, _, dX6_laysBest_87, amSite.P (amSiteV (C := RX6) (metX6_nextOrder l G) rfl (by decide) (by decide) (lw_V q1468 q1470 qs55 q94 q1471) ⟨_, rfl, rfl⟩ ⟨rfl, by decide +kernel, by decide +kernel, by decide +kernel⟩)⟩, ?_⟩
  exact fun _ h => absurd h List.not_mem_nil)
theorem goX6_laysBest {ret F} (hF : amCld cX6_laysBest kX6_laysBest (amLk rX6_laysBest) none 0 0 ret F) (n : Nat) {pc ls st h k z} (q : sX6_laysBest ret F n pc ls st h k z) : F pc ls st h k z := hF.1 n pc ls st h k z q
theorem metX6_laysBest (l : Launch) (G : amG) : amMet l G yX6_laysBest (ws_ yX6_laysBest cX6_laysBest 4 none) 4 0 0 tX6_laysBest := by
  refine amMet_of (cut := kX6_laysBest) (by decide +kernel) (evX6_laysBest l G) ?_
  intro as h K hT
  match as, hT with
  | [.ref a], ⟨S, e1, hA, hK⟩ =>
  refine ⟨Nat.le_of_ble_eq_true rfl, fun F hF => ?_⟩
  show F 0 [.ref a, .retAddr 0, .retAddr 0, .retAddr 0] [] h 0 0
  obtain ⟨a, rfl⟩ : ∃ i : Nat, i = a := ⟨_, rfl⟩
  subst e1
  have hR := hA.1
  have hO := hA.2.2
  have n7 := hA.2.1.n7
  have after : ∀ post l m v2 v3, isRest S.ord.length (l :: post) → mdPre (amSI h m) S l → (post = [] → ∀ v2 v3, F 12 [.ref 124, .int (nI 0), v2, v3] [] (amSI h m) 0 0) → (∀ g t, post = g :: t → ∀ m' v2 v3, mdPre (amSI h m') S g → mqFr m m' → F 12 [.ref 124, .int (nI 1), v2, v3] [] (amSI h m') 0 0) → F 86 [.ref 124, .int (nI 1), v2, v3] [] (amSI h m) 0 0 := by
    intro post l m v2 v3 hr hp k0 k1
    refine goX6_laysBest hF 60 ?_
    simp (disch := omega) only [wX6_laysBest_0, uX6_laysBest_0, wX6_laysBest_1, wX6_laysBest_3, wX6_laysBest_6, wX6_laysBest_7, wX6_laysBest_10, uX6_laysBest_10, wX6_laysBest_11, wX6_laysBest_12, uX6_laysBest_12, wX6_laysBest_13, wX6_laysBest_16, wX6_laysBest_17, wX6_laysBest_20, wX6_laysBest_23, wX6_laysBest_24, wX6_laysBest_27, uX6_laysBest_27, wX6_laysBest_28, wX6_laysBest_31, wX6_laysBest_32, wX6_laysBest_33, wX6_laysBest_36, wX6_laysBest_37, wX6_laysBest_38, wX6_laysBest_41, wX6_laysBest_44, wX6_laysBest_45, wX6_laysBest_46, wX6_laysBest_49, wX6_laysBest_52, wX6_laysBest_53, wX6_laysBest_54, wX6_laysBest_57, wX6_laysBest_60, wX6_laysBest_61, wX6_laysBest_62, wX6_laysBest_65, wX6_laysBest_68, uX6_laysBest_68, wX6_laysBest_69, wX6_laysBest_70, wX6_laysBest_73, wX6_laysBest_76, wX6_laysBest_77, wX6_laysBest_78, wX6_laysBest_81, wX6_laysBest_82, wX6_laysBest_83, wX6_laysBest_86, uX6_laysBest_86, wX6_laysBest_87, wX6_laysBest_90, uX6_laysBest_90, wX6_laysBest_91, wX6_laysBest_94, amSI_1, amSI_2, amSI_3, amSI_s, amU_at, amIsR_ref, amIsR_null, amIsR_rf, amRf_some, amRf_none, amClr_int, amClr_ref, amClr_null, amClr_long, amClr_ra, amClr_rf, amFit_int, amFit_oref, amFit_aref, amFit_onull, amFit_anull, amOptSome, amOptNone, List.cons_append, List.nil_append, true_and, and_true, true_implies, not_true_eq_false, not_false_eq_true, false_implies, and_self, Nat.add_zero, Nat.zero_add, ne_eq, Prod.mk.injEq, amC01_0, amC01_1, amC01_nb, amNb0, amNb1, amTcpI_d, Nat.reduceLeDiff, Nat.reduceAdd, Nat.reduceSub, Nat.reduceEqDiff, Nat.le_refl, amN0le, hR.s, hR.r]
    refine mNext hp hr (fun e => ?_) (fun g t e m' q1 q2 => ?_)
    · have := k0 e v2 v3
      refine goX6_laysBest hF 60 ?_
      simp (disch := omega) only [wX6_laysBest_0, uX6_laysBest_0, wX6_laysBest_1, wX6_laysBest_3, wX6_laysBest_6, wX6_laysBest_7, wX6_laysBest_10, uX6_laysBest_10, wX6_laysBest_11, wX6_laysBest_12, uX6_laysBest_12, wX6_laysBest_13, wX6_laysBest_16, wX6_laysBest_17, wX6_laysBest_20, wX6_laysBest_23, wX6_laysBest_24, wX6_laysBest_27, uX6_laysBest_27, wX6_laysBest_28, wX6_laysBest_31, wX6_laysBest_32, wX6_laysBest_33, wX6_laysBest_36, wX6_laysBest_37, wX6_laysBest_38, wX6_laysBest_41, wX6_laysBest_44, wX6_laysBest_45, wX6_laysBest_46, wX6_laysBest_49, wX6_laysBest_52, wX6_laysBest_53, wX6_laysBest_54, wX6_laysBest_57, wX6_laysBest_60, wX6_laysBest_61, wX6_laysBest_62, wX6_laysBest_65, wX6_laysBest_68, uX6_laysBest_68, wX6_laysBest_69, wX6_laysBest_70, wX6_laysBest_73, wX6_laysBest_76, wX6_laysBest_77, wX6_laysBest_78, wX6_laysBest_81, wX6_laysBest_82, wX6_laysBest_83, wX6_laysBest_86, uX6_laysBest_86, wX6_laysBest_87, wX6_laysBest_90, uX6_laysBest_90, wX6_laysBest_91, wX6_laysBest_94, amSI_1, amSI_2, amSI_3, amSI_s, amU_at, amIsR_ref, amIsR_null, amIsR_rf, amRf_some, amRf_none, amClr_int, amClr_ref, amClr_null, amClr_long, amClr_ra, amClr_rf, amFit_int, amFit_oref, amFit_aref, amFit_onull, amFit_anull, amOptSome, amOptNone, List.cons_append, List.nil_append, true_and, and_true, true_implies, not_true_eq_false, not_false_eq_true, false_implies, and_self, Nat.add_zero, Nat.zero_add, ne_eq, Prod.mk.injEq, amC01_0, amC01_1, amC01_nb, amNb0, amNb1, amTcpI_d, Nat.reduceLeDiff, Nat.reduceAdd, Nat.reduceSub, Nat.reduceEqDiff, Nat.le_refl, amN0le, hR.s, hR.r]
      exact this
    · have := k1 g t e m' v2 v3 q1 q2
      refine goX6_laysBest hF 60 ?_
      simp (disch := omega) only [wX6_laysBest_0, uX6_laysBest_0, wX6_laysBest_1, wX6_laysBest_3, wX6_laysBest_6, wX6_laysBest_7, wX6_laysBest_10, uX6_laysBest_10, wX6_laysBest_11, wX6_laysBest_12, uX6_laysBest_12, wX6_laysBest_13, wX6_laysBest_16, wX6_laysBest_17, wX6_laysBest_20, wX6_laysBest_23, wX6_laysBest_24, wX6_laysBest_27, uX6_laysBest_27, wX6_laysBest_28, wX6_laysBest_31, wX6_laysBest_32, wX6_laysBest_33, wX6_laysBest_36, wX6_laysBest_37, wX6_laysBest_38, wX6_laysBest_41, wX6_laysBest_44, wX6_laysBest_45, wX6_laysBest_46, wX6_laysBest_49, wX6_laysBest_52, wX6_laysBest_53, wX6_laysBest_54, wX6_laysBest_57, wX6_laysBest_60, wX6_laysBest_61, wX6_laysBest_62, wX6_laysBest_65, wX6_laysBest_68, uX6_laysBest_68, wX6_laysBest_69, wX6_laysBest_70, wX6_laysBest_73, wX6_laysBest_76, wX6_laysBest_77, wX6_laysBest_78, wX6_laysBest_81, wX6_laysBest_82, wX6_laysBest_83, wX6_laysBest_86, uX6_laysBest_86, wX6_laysBest_87, wX6_laysBest_90, uX6_laysBest_90, wX6_laysBest_91, wX6_laysBest_94, amSI_1, amSI_2, amSI_3, amSI_s, amU_at, amIsR_ref, amIsR_null, amIsR_rf, amRf_some, amRf_none, amClr_int, amClr_ref, amClr_null, amClr_long, amClr_ra, amClr_rf, amFit_int, amFit_oref, amFit_aref, amFit_onull, amFit_anull, amOptSome, amOptNone, List.cons_append, List.nil_append, true_and, and_true, true_implies, not_true_eq_false, not_false_eq_true, false_implies, and_self, Nat.add_zero, Nat.zero_add, ne_eq, Prod.mk.injEq, amC01_0, amC01_1, amC01_nb, amNb0, amNb1, amTcpI_d, Nat.reduceLeDiff, Nat.reduceAdd, Nat.reduceSub, Nat.reduceEqDiff, Nat.le_refl, amN0le, hR.s, hR.r]
      exact this
  have body : ∀ l B m v2 v3, mdPre (amSI h m) S l → mbIs m B → (∀ m' v2 v3, mdPre (amSI h m') S l → mbFr m m' → mbIs m' (bestStep S l B) → F 86 [.ref 124, .int (nI 1), v2, v3] [] (amSI h m') 0 0) → F 12 [.ref 124, .int (nI 1), v2, v3] [] (amSI h m) 0 0 := by
    intro l B m v2 v3 hp hb nx
    have pk := S.peak_le l
    have ls := S.loss_le l (by rw [hp.2.2.2.2.2.2.1]; exact n7)
    have nu := numL_small (l := l) (by rw [hp.2.2.2.2.2.2.1]; exact n7) (fun x hx => by have := hp.2.2.2.2.2.2.2 x hx; omega)
    refine goX6_laysBest hF 60 ?_
    simp (disch := omega) only [wX6_laysBest_0, uX6_laysBest_0, wX6_laysBest_1, wX6_laysBest_3, wX6_laysBest_6, wX6_laysBest_7, wX6_laysBest_10, uX6_laysBest_10, wX6_laysBest_11, wX6_laysBest_12, uX6_laysBest_12, wX6_laysBest_13, wX6_laysBest_16, wX6_laysBest_17, wX6_laysBest_20, wX6_laysBest_23, wX6_laysBest_24, wX6_laysBest_27, uX6_laysBest_27, wX6_laysBest_28, wX6_laysBest_31, wX6_laysBest_32, wX6_laysBest_33, wX6_laysBest_36, wX6_laysBest_37, wX6_laysBest_38, wX6_laysBest_41, wX6_laysBest_44, wX6_laysBest_45, wX6_laysBest_46, wX6_laysBest_49, wX6_laysBest_52, wX6_laysBest_53, wX6_laysBest_54, wX6_laysBest_57, wX6_laysBest_60, wX6_laysBest_61, wX6_laysBest_62, wX6_laysBest_65, wX6_laysBest_68, uX6_laysBest_68, wX6_laysBest_69, wX6_laysBest_70, wX6_laysBest_73, wX6_laysBest_76, wX6_laysBest_77, wX6_laysBest_78, wX6_laysBest_81, wX6_laysBest_82, wX6_laysBest_83, wX6_laysBest_86, uX6_laysBest_86, wX6_laysBest_87, wX6_laysBest_90, uX6_laysBest_90, wX6_laysBest_91, wX6_laysBest_94, amSI_1, amSI_2, amSI_3, amSI_s, amU_at, amIsR_ref, amIsR_null, amIsR_rf, amRf_some, amRf_none, amClr_int, amClr_ref, amClr_null, amClr_long, amClr_ra, amClr_rf, amFit_int, amFit_oref, amFit_aref, amFit_onull, amFit_anull, amOptSome, amOptNone, List.cons_append, List.nil_append, true_and, and_true, true_implies, not_true_eq_false, not_false_eq_true, false_implies, and_self, Nat.add_zero, Nat.zero_add, ne_eq, Prod.mk.injEq, amC01_0, amC01_1, amC01_nb, amNb0, amNb1, amTcpI_d, Nat.reduceLeDiff, Nat.reduceAdd, Nat.reduceSub, Nat.reduceEqDiff, Nat.le_refl, amN0le, hR.s, hR.r, n1ne]
    refine mHold hp ?_
    simp (disch := omega) only [wX6_laysBest_0, uX6_laysBest_0, wX6_laysBest_1, wX6_laysBest_3, wX6_laysBest_6, wX6_laysBest_7, wX6_laysBest_10, uX6_laysBest_10, wX6_laysBest_11, wX6_laysBest_12, uX6_laysBest_12, wX6_laysBest_13, wX6_laysBest_16, wX6_laysBest_17, wX6_laysBest_20, wX6_laysBest_23, wX6_laysBest_24, wX6_laysBest_27, uX6_laysBest_27, wX6_laysBest_28, wX6_laysBest_31, wX6_laysBest_32, wX6_laysBest_33, wX6_laysBest_36, wX6_laysBest_37, wX6_laysBest_38, wX6_laysBest_41, wX6_laysBest_44, wX6_laysBest_45, wX6_laysBest_46, wX6_laysBest_49, wX6_laysBest_52, wX6_laysBest_53, wX6_laysBest_54, wX6_laysBest_57, wX6_laysBest_60, wX6_laysBest_61, wX6_laysBest_62, wX6_laysBest_65, wX6_laysBest_68, uX6_laysBest_68, wX6_laysBest_69, wX6_laysBest_70, wX6_laysBest_73, wX6_laysBest_76, wX6_laysBest_77, wX6_laysBest_78, wX6_laysBest_81, wX6_laysBest_82, wX6_laysBest_83, wX6_laysBest_86, uX6_laysBest_86, wX6_laysBest_87, wX6_laysBest_90, uX6_laysBest_90, wX6_laysBest_91, wX6_laysBest_94, amSI_1, amSI_2, amSI_3, amSI_s, amU_at, amIsR_ref, amIsR_null, amIsR_rf, amRf_some, amRf_none, amClr_int, amClr_ref, amClr_null, amClr_long, amClr_ra, amClr_rf, amFit_int, amFit_oref, amFit_aref, amFit_onull, amFit_anull, amOptSome, amOptNone, List.cons_append, List.nil_append, true_and, and_true, true_implies, not_true_eq_false, not_false_eq_true, false_implies, and_self, Nat.add_zero, Nat.zero_add, ne_eq, Prod.mk.injEq, amC01_0, amC01_1, amC01_nb, amNb0, amNb1, amTcpI_d, Nat.reduceLeDiff, Nat.reduceAdd, Nat.reduceSub, Nat.reduceEqDiff, Nat.le_refl, amN0le, hR.s, hR.r]
    refine ⟨fun r => ?_, fun r => mReads hp (fun m1 q1 p1 f1 => ?_)⟩
    · refine nx m v2 v3 hp (mbFr.rf m) ?_
      have : bestStep S l B = B := by unfold bestStep; rw [if_neg (by simp [r])]
      rw [this]
      exact hb
    · have r := Classical.not_not.mp r
      have hb1 := hb.kept f1.mq
      have f68 : bestStep S l B = (S.peak l, S.loss l, l) → F 68 [.ref 124, .int (nI 1), .int (nI (S.peak l)), .int (nI (S.loss l))] [] (amSI h m1) 0 0 := by
        intro e
        refine goX6_laysBest hF 60 ?_
        simp (disch := omega) only [wX6_laysBest_0, uX6_laysBest_0, wX6_laysBest_1, wX6_laysBest_3, wX6_laysBest_6, wX6_laysBest_7, wX6_laysBest_10, uX6_laysBest_10, wX6_laysBest_11, wX6_laysBest_12, uX6_laysBest_12, wX6_laysBest_13, wX6_laysBest_16, wX6_laysBest_17, wX6_laysBest_20, wX6_laysBest_23, wX6_laysBest_24, wX6_laysBest_27, uX6_laysBest_27, wX6_laysBest_28, wX6_laysBest_31, wX6_laysBest_32, wX6_laysBest_33, wX6_laysBest_36, wX6_laysBest_37, wX6_laysBest_38, wX6_laysBest_41, wX6_laysBest_44, wX6_laysBest_45, wX6_laysBest_46, wX6_laysBest_49, wX6_laysBest_52, wX6_laysBest_53, wX6_laysBest_54, wX6_laysBest_57, wX6_laysBest_60, wX6_laysBest_61, wX6_laysBest_62, wX6_laysBest_65, wX6_laysBest_68, uX6_laysBest_68, wX6_laysBest_69, wX6_laysBest_70, wX6_laysBest_73, wX6_laysBest_76, wX6_laysBest_77, wX6_laysBest_78, wX6_laysBest_81, wX6_laysBest_82, wX6_laysBest_83, wX6_laysBest_86, uX6_laysBest_86, wX6_laysBest_87, wX6_laysBest_90, uX6_laysBest_90, wX6_laysBest_91, wX6_laysBest_94, amSI_1, amSI_2, amSI_3, amSI_s, amU_at, amIsR_ref, amIsR_null, amIsR_rf, amRf_some, amRf_none, amClr_int, amClr_ref, amClr_null, amClr_long, amClr_ra, amClr_rf, amFit_int, amFit_oref, amFit_aref, amFit_onull, amFit_anull, amOptSome, amOptNone, List.cons_append, List.nil_append, true_and, and_true, true_implies, not_true_eq_false, not_false_eq_true, false_implies, and_self, Nat.add_zero, Nat.zero_add, ne_eq, Prod.mk.injEq, amC01_0, amC01_1, amC01_nb, amNb0, amNb1, amTcpI_d, Nat.reduceLeDiff, Nat.reduceAdd, Nat.reduceSub, Nat.reduceEqDiff, Nat.le_refl, amN0le, hR.s, hR.r]
        refine mNumber p1 ?_
        simp (disch := omega) only [wX6_laysBest_0, uX6_laysBest_0, wX6_laysBest_1, wX6_laysBest_3, wX6_laysBest_6, wX6_laysBest_7, wX6_laysBest_10, uX6_laysBest_10, wX6_laysBest_11, wX6_laysBest_12, uX6_laysBest_12, wX6_laysBest_13, wX6_laysBest_16, wX6_laysBest_17, wX6_laysBest_20, wX6_laysBest_23, wX6_laysBest_24, wX6_laysBest_27, uX6_laysBest_27, wX6_laysBest_28, wX6_laysBest_31, wX6_laysBest_32, wX6_laysBest_33, wX6_laysBest_36, wX6_laysBest_37, wX6_laysBest_38, wX6_laysBest_41, wX6_laysBest_44, wX6_laysBest_45, wX6_laysBest_46, wX6_laysBest_49, wX6_laysBest_52, wX6_laysBest_53, wX6_laysBest_54, wX6_laysBest_57, wX6_laysBest_60, wX6_laysBest_61, wX6_laysBest_62, wX6_laysBest_65, wX6_laysBest_68, uX6_laysBest_68, wX6_laysBest_69, wX6_laysBest_70, wX6_laysBest_73, wX6_laysBest_76, wX6_laysBest_77, wX6_laysBest_78, wX6_laysBest_81, wX6_laysBest_82, wX6_laysBest_83, wX6_laysBest_86, uX6_laysBest_86, wX6_laysBest_87, wX6_laysBest_90, uX6_laysBest_90, wX6_laysBest_91, wX6_laysBest_94, amSI_1, amSI_2, amSI_3, amSI_s, amU_at, amIsR_ref, amIsR_null, amIsR_rf, amRf_some, amRf_none, amClr_int, amClr_ref, amClr_null, amClr_long, amClr_ra, amClr_rf, amFit_int, amFit_oref, amFit_aref, amFit_onull, amFit_anull, amOptSome, amOptNone, List.cons_append, List.nil_append, true_and, and_true, true_implies, not_true_eq_false, not_false_eq_true, false_implies, and_self, Nat.add_zero, Nat.zero_add, ne_eq, Prod.mk.injEq, amC01_0, amC01_1, amC01_nb, amNb0, amNb1, amTcpI_d, Nat.reduceLeDiff, Nat.reduceAdd, Nat.reduceSub, Nat.reduceEqDiff, Nat.le_refl, amN0le, hR.s, hR.r]
        refine nx _ _ _ (p1.mv ?_ ?_) (f1.mq.mb.tr ⟨fun i h1 h2 => ?_, fun j hj => ?_⟩) ?_
        · simp (disch := omega) only [amU_at, amU_ne, amU_nj, amU_neR, up_ne, up_at, amSI_2]
        · simp (disch := omega) only [amU_at, amU_ne, amU_nj, amU_neR, up_ne, up_at, amSI_2]
        · simp (disch := omega) only [amU_at, amU_ne, amU_nj, amU_neR, up_ne, up_at, amSI_2]
        · simp (disch := omega) only [amU_at, amU_ne, amU_nj, amU_neR, up_ne, up_at, amSI_2]
        · rw [e]
          refine Or.inr ⟨?_, nu, ?_, ?_, pk, ls⟩
          · simp (disch := omega) only [amU_at, amU_ne, amU_nj, amU_neR, up_ne, up_at, amSI_2]
          · simp (disch := omega) only [amU_at, amU_ne, amU_nj, amU_neR, up_ne, up_at, amSI_2]
          · simp (disch := omega) only [amU_at, amU_ne, amU_nj, amU_neR, up_ne, up_at, amSI_2]
      have f86 : bestStep S l B = B → ∀ v2 v3, F 86 [.ref 124, .int (nI 1), v2, v3] [] (amSI h m1) 0 0 := fun e v2 v3 => nx m1 v2 v3 p1 f1.mq.mb (by rw [e]; exact hb1)
      refine goX6_laysBest hF 60 ?_
      simp (disch := omega) only [wX6_laysBest_0, uX6_laysBest_0, wX6_laysBest_1, wX6_laysBest_3, wX6_laysBest_6, wX6_laysBest_7, wX6_laysBest_10, uX6_laysBest_10, wX6_laysBest_11, wX6_laysBest_12, uX6_laysBest_12, wX6_laysBest_13, wX6_laysBest_16, wX6_laysBest_17, wX6_laysBest_20, wX6_laysBest_23, wX6_laysBest_24, wX6_laysBest_27, uX6_laysBest_27, wX6_laysBest_28, wX6_laysBest_31, wX6_laysBest_32, wX6_laysBest_33, wX6_laysBest_36, wX6_laysBest_37, wX6_laysBest_38, wX6_laysBest_41, wX6_laysBest_44, wX6_laysBest_45, wX6_laysBest_46, wX6_laysBest_49, wX6_laysBest_52, wX6_laysBest_53, wX6_laysBest_54, wX6_laysBest_57, wX6_laysBest_60, wX6_laysBest_61, wX6_laysBest_62, wX6_laysBest_65, wX6_laysBest_68, uX6_laysBest_68, wX6_laysBest_69, wX6_laysBest_70, wX6_laysBest_73, wX6_laysBest_76, wX6_laysBest_77, wX6_laysBest_78, wX6_laysBest_81, wX6_laysBest_82, wX6_laysBest_83, wX6_laysBest_86, uX6_laysBest_86, wX6_laysBest_87, wX6_laysBest_90, uX6_laysBest_90, wX6_laysBest_91, wX6_laysBest_94, amSI_1, amSI_2, amSI_3, amSI_s, amU_at, amIsR_ref, amIsR_null, amIsR_rf, amRf_some, amRf_none, amClr_int, amClr_ref, amClr_null, amClr_long, amClr_ra, amClr_rf, amFit_int, amFit_oref, amFit_aref, amFit_onull, amFit_anull, amOptSome, amOptNone, List.cons_append, List.nil_append, true_and, and_true, true_implies, not_true_eq_false, not_false_eq_true, false_implies, and_self, Nat.add_zero, Nat.zero_add, ne_eq, Prod.mk.injEq, amC01_0, amC01_1, amC01_nb, amNb0, amNb1, amTcpI_d, Nat.reduceLeDiff, Nat.reduceAdd, Nat.reduceSub, Nat.reduceEqDiff, Nat.le_refl, amN0le, hR.s, hR.r]
      refine mPeak p1 q1 ?_
      simp (disch := omega) only [wX6_laysBest_0, uX6_laysBest_0, wX6_laysBest_1, wX6_laysBest_3, wX6_laysBest_6, wX6_laysBest_7, wX6_laysBest_10, uX6_laysBest_10, wX6_laysBest_11, wX6_laysBest_12, uX6_laysBest_12, wX6_laysBest_13, wX6_laysBest_16, wX6_laysBest_17, wX6_laysBest_20, wX6_laysBest_23, wX6_laysBest_24, wX6_laysBest_27, uX6_laysBest_27, wX6_laysBest_28, wX6_laysBest_31, wX6_laysBest_32, wX6_laysBest_33, wX6_laysBest_36, wX6_laysBest_37, wX6_laysBest_38, wX6_laysBest_41, wX6_laysBest_44, wX6_laysBest_45, wX6_laysBest_46, wX6_laysBest_49, wX6_laysBest_52, wX6_laysBest_53, wX6_laysBest_54, wX6_laysBest_57, wX6_laysBest_60, wX6_laysBest_61, wX6_laysBest_62, wX6_laysBest_65, wX6_laysBest_68, uX6_laysBest_68, wX6_laysBest_69, wX6_laysBest_70, wX6_laysBest_73, wX6_laysBest_76, wX6_laysBest_77, wX6_laysBest_78, wX6_laysBest_81, wX6_laysBest_82, wX6_laysBest_83, wX6_laysBest_86, uX6_laysBest_86, wX6_laysBest_87, wX6_laysBest_90, uX6_laysBest_90, wX6_laysBest_91, wX6_laysBest_94, amSI_1, amSI_2, amSI_3, amSI_s, amU_at, amIsR_ref, amIsR_null, amIsR_rf, amRf_some, amRf_none, amClr_int, amClr_ref, amClr_null, amClr_long, amClr_ra, amClr_rf, amFit_int, amFit_oref, amFit_aref, amFit_onull, amFit_anull, amOptSome, amOptNone, List.cons_append, List.nil_append, true_and, and_true, true_implies, not_true_eq_false, not_false_eq_true, false_implies, and_self, Nat.add_zero, Nat.zero_add, ne_eq, Prod.mk.injEq, amC01_0, amC01_1, amC01_nb, amNb0, amNb1, amTcpI_d, Nat.reduceLeDiff, Nat.reduceAdd, Nat.reduceSub, Nat.reduceEqDiff, Nat.le_refl, amN0le, hR.s, hR.r]
      refine mLoss p1 q1 ?_
      rcases hb1 with ⟨b1, b2⟩ | ⟨b1, b2, b3, b4, b5, b6⟩
      · simp (disch := omega) only [wX6_laysBest_0, uX6_laysBest_0, wX6_laysBest_1, wX6_laysBest_3, wX6_laysBest_6, wX6_laysBest_7, wX6_laysBest_10, uX6_laysBest_10, wX6_laysBest_11, wX6_laysBest_12, uX6_laysBest_12, wX6_laysBest_13, wX6_laysBest_16, wX6_laysBest_17, wX6_laysBest_20, wX6_laysBest_23, wX6_laysBest_24, wX6_laysBest_27, uX6_laysBest_27, wX6_laysBest_28, wX6_laysBest_31, wX6_laysBest_32, wX6_laysBest_33, wX6_laysBest_36, wX6_laysBest_37, wX6_laysBest_38, wX6_laysBest_41, wX6_laysBest_44, wX6_laysBest_45, wX6_laysBest_46, wX6_laysBest_49, wX6_laysBest_52, wX6_laysBest_53, wX6_laysBest_54, wX6_laysBest_57, wX6_laysBest_60, wX6_laysBest_61, wX6_laysBest_62, wX6_laysBest_65, wX6_laysBest_68, uX6_laysBest_68, wX6_laysBest_69, wX6_laysBest_70, wX6_laysBest_73, wX6_laysBest_76, wX6_laysBest_77, wX6_laysBest_78, wX6_laysBest_81, wX6_laysBest_82, wX6_laysBest_83, wX6_laysBest_86, uX6_laysBest_86, wX6_laysBest_87, wX6_laysBest_90, uX6_laysBest_90, wX6_laysBest_91, wX6_laysBest_94, amSI_1, amSI_2, amSI_3, amSI_s, amU_at, amIsR_ref, amIsR_null, amIsR_rf, amRf_some, amRf_none, amClr_int, amClr_ref, amClr_null, amClr_long, amClr_ra, amClr_rf, amFit_int, amFit_oref, amFit_aref, amFit_onull, amFit_anull, amOptSome, amOptNone, List.cons_append, List.nil_append, true_and, and_true, true_implies, not_true_eq_false, not_false_eq_true, false_implies, and_self, Nat.add_zero, Nat.zero_add, ne_eq, Prod.mk.injEq, amC01_0, amC01_1, amC01_nb, amNb0, amNb1, amTcpI_d, Nat.reduceLeDiff, Nat.reduceAdd, Nat.reduceSub, Nat.reduceEqDiff, Nat.le_refl, amN0le, hR.s, hR.r, b1, n4neg]
        exact f68 (by unfold bestStep; rw [b2, r, if_pos (by simp; omega)])
      · simp (disch := omega) only [wX6_laysBest_0, uX6_laysBest_0, wX6_laysBest_1, wX6_laysBest_3, wX6_laysBest_6, wX6_laysBest_7, wX6_laysBest_10, uX6_laysBest_10, wX6_laysBest_11, wX6_laysBest_12, uX6_laysBest_12, wX6_laysBest_13, wX6_laysBest_16, wX6_laysBest_17, wX6_laysBest_20, wX6_laysBest_23, wX6_laysBest_24, wX6_laysBest_27, uX6_laysBest_27, wX6_laysBest_28, wX6_laysBest_31, wX6_laysBest_32, wX6_laysBest_33, wX6_laysBest_36, wX6_laysBest_37, wX6_laysBest_38, wX6_laysBest_41, wX6_laysBest_44, wX6_laysBest_45, wX6_laysBest_46, wX6_laysBest_49, wX6_laysBest_52, wX6_laysBest_53, wX6_laysBest_54, wX6_laysBest_57, wX6_laysBest_60, wX6_laysBest_61, wX6_laysBest_62, wX6_laysBest_65, wX6_laysBest_68, uX6_laysBest_68, wX6_laysBest_69, wX6_laysBest_70, wX6_laysBest_73, wX6_laysBest_76, wX6_laysBest_77, wX6_laysBest_78, wX6_laysBest_81, wX6_laysBest_82, wX6_laysBest_83, wX6_laysBest_86, uX6_laysBest_86, wX6_laysBest_87, wX6_laysBest_90, uX6_laysBest_90, wX6_laysBest_91, wX6_laysBest_94, amSI_1, amSI_2, amSI_3, amSI_s, amU_at, amIsR_ref, amIsR_null, amIsR_rf, amRf_some, amRf_none, amClr_int, amClr_ref, amClr_null, amClr_long, amClr_ra, amClr_rf, amFit_int, amFit_oref, amFit_aref, amFit_onull, amFit_anull, amOptSome, amOptNone, List.cons_append, List.nil_append, true_and, and_true, true_implies, not_true_eq_false, not_false_eq_true, false_implies, and_self, Nat.add_zero, Nat.zero_add, ne_eq, Prod.mk.injEq, amC01_0, amC01_1, amC01_nb, amNb0, amNb1, amTcpI_d, Nat.reduceLeDiff, Nat.reduceAdd, Nat.reduceSub, Nat.reduceEqDiff, Nat.le_refl, amN0le, hR.s, hR.r, amLeI, amLtI, amEqI, amLe0, amGt0, amEq0, amNotPosI, amGe0, amVI, amCl_nI, amAdd, amSub, amMul, b1, b3, b4]
        refine ⟨fun z1 => f68 ?_, fun z1 => ⟨fun z2 => f86 ?_ _ _, fun z2 => ⟨fun z3 => f86 ?_ _ _, fun z3 => f68 ?_⟩⟩⟩
        · unfold bestStep; rw [r, if_pos (by simp [z1])]
        · unfold bestStep; rw [r, if_neg (by simp; exact ⟨by omega, fun z => absurd z z2⟩)]
        · unfold bestStep; rw [r, if_neg (by simp; exact ⟨by omega, fun z => by omega⟩)]
        · unfold bestStep; rw [r, if_pos (by simp; exact Or.inr ⟨by omega, by omega⟩)]
  have loop : ∀ post l B m v2 v3, isRest S.ord.length (l :: post) → mdPre (amSI h m) S l → mbFr h.2.1 m → mbIs m B → (runA (bestF S) (l :: post) B).1 = S.best → F 12 [.ref 124, .int (nI 1), v2, v3] [] (amSI h m) 0 0 := by
    intro post
    induction post with
    | nil =>
      intro l B m v2 v3 hr hp hf hb he
      refine body l B m v2 v3 hp hb (fun m' v2 v3 p1 f1 b1 => after [] l m' v2 v3 hr p1 (fun _ v2 v3 => ?_) (fun g t e => by cases e))
      have e : bestStep S l B = S.best := he
      rw [e] at b1
      rcases b1 with ⟨_, z⟩ | ⟨c1, c2, c3, c4, c5, c6⟩
      · have := best_20 hO
        rw [z] at this
        exact absurd this (by decide)
      · refine goX6_laysBest hF 60 ?_
        simp (disch := omega) only [wX6_laysBest_0, uX6_laysBest_0, wX6_laysBest_1, wX6_laysBest_3, wX6_laysBest_6, wX6_laysBest_7, wX6_laysBest_10, uX6_laysBest_10, wX6_laysBest_11, wX6_laysBest_12, uX6_laysBest_12, wX6_laysBest_13, wX6_laysBest_16, wX6_laysBest_17, wX6_laysBest_20, wX6_laysBest_23, wX6_laysBest_24, wX6_laysBest_27, uX6_laysBest_27, wX6_laysBest_28, wX6_laysBest_31, wX6_laysBest_32, wX6_laysBest_33, wX6_laysBest_36, wX6_laysBest_37, wX6_laysBest_38, wX6_laysBest_41, wX6_laysBest_44, wX6_laysBest_45, wX6_laysBest_46, wX6_laysBest_49, wX6_laysBest_52, wX6_laysBest_53, wX6_laysBest_54, wX6_laysBest_57, wX6_laysBest_60, wX6_laysBest_61, wX6_laysBest_62, wX6_laysBest_65, wX6_laysBest_68, uX6_laysBest_68, wX6_laysBest_69, wX6_laysBest_70, wX6_laysBest_73, wX6_laysBest_76, wX6_laysBest_77, wX6_laysBest_78, wX6_laysBest_81, wX6_laysBest_82, wX6_laysBest_83, wX6_laysBest_86, uX6_laysBest_86, wX6_laysBest_87, wX6_laysBest_90, uX6_laysBest_90, wX6_laysBest_91, wX6_laysBest_94, amSI_1, amSI_2, amSI_3, amSI_s, amU_at, amIsR_ref, amIsR_null, amIsR_rf, amRf_some, amRf_none, amClr_int, amClr_ref, amClr_null, amClr_long, amClr_ra, amClr_rf, amFit_int, amFit_oref, amFit_aref, amFit_onull, amFit_anull, amOptSome, amOptNone, List.cons_append, List.nil_append, true_and, and_true, true_implies, not_true_eq_false, not_false_eq_true, false_implies, and_self, Nat.add_zero, Nat.zero_add, ne_eq, Prod.mk.injEq, amC01_0, amC01_1, amC01_nb, amNb0, amNb1, amTcpI_d, Nat.reduceLeDiff, Nat.reduceAdd, Nat.reduceSub, Nat.reduceEqDiff, Nat.le_refl, amN0le, hR.s, hR.r, n0eq]
        exact amRet.of (by decide) (by decide) (hK m' (hf.tr f1) c1 c3 c4)
    | cons g t ih =>
      intro l B m v2 v3 hr hp hf hb he
      refine body l B m v2 v3 hp hb (fun m' v2 v3 p1 f1 b1 => after (g :: t) l m' v2 v3 hr p1 (fun e => by cases e) (fun g' t' e m2 v2 v3 p2 f2 => ?_))
      cases e
      refine ih g _ m2 v2 v3 hr.tl p2 ((hf.tr f1).tr f2.mb) (b1.kept f2) ?_
      rw [← he, runA]
      rfl
  obtain ⟨t, e, hr⟩ := isRest.first n7
  refine goX6_laysBest hF 60 ?_
  simp (disch := omega) only [wX6_laysBest_0, uX6_laysBest_0, wX6_laysBest_1, wX6_laysBest_3, wX6_laysBest_6, wX6_laysBest_7, wX6_laysBest_10, uX6_laysBest_10, wX6_laysBest_11, wX6_laysBest_12, uX6_laysBest_12, wX6_laysBest_13, wX6_laysBest_16, wX6_laysBest_17, wX6_laysBest_20, wX6_laysBest_23, wX6_laysBest_24, wX6_laysBest_27, uX6_laysBest_27, wX6_laysBest_28, wX6_laysBest_31, wX6_laysBest_32, wX6_laysBest_33, wX6_laysBest_36, wX6_laysBest_37, wX6_laysBest_38, wX6_laysBest_41, wX6_laysBest_44, wX6_laysBest_45, wX6_laysBest_46, wX6_laysBest_49, wX6_laysBest_52, wX6_laysBest_53, wX6_laysBest_54, wX6_laysBest_57, wX6_laysBest_60, wX6_laysBest_61, wX6_laysBest_62, wX6_laysBest_65, wX6_laysBest_68, uX6_laysBest_68, wX6_laysBest_69, wX6_laysBest_70, wX6_laysBest_73, wX6_laysBest_76, wX6_laysBest_77, wX6_laysBest_78, wX6_laysBest_81, wX6_laysBest_82, wX6_laysBest_83, wX6_laysBest_86, uX6_laysBest_86, wX6_laysBest_87, wX6_laysBest_90, uX6_laysBest_90, wX6_laysBest_91, wX6_laysBest_94, amSI_1, amSI_2, amSI_3, amSI_s, amU_at, amIsR_ref, amIsR_null, amIsR_rf, amRf_some, amRf_none, amClr_int, amClr_ref, amClr_null, amClr_long, amClr_ra, amClr_rf, amFit_int, amFit_oref, amFit_aref, amFit_onull, amFit_anull, amOptSome, amOptNone, List.cons_append, List.nil_append, true_and, and_true, true_implies, not_true_eq_false, not_false_eq_true, false_implies, and_self, Nat.add_zero, Nat.zero_add, ne_eq, Prod.mk.injEq, amC01_0, amC01_1, amC01_nb, amNb0, amNb1, amTcpI_d, Nat.reduceLeDiff, Nat.reduceAdd, Nat.reduceSub, Nat.reduceEqDiff, Nat.le_refl, amN0le, hR.s, hR.r]
  have hA2 : mdSys (amSI h (amU h.2.1 124 19 (-4))) S := hA.fb ⟨fun i h1 h2 => by simp (disch := omega) only [amU_at, amU_ne, amU_nj, amU_neR, up_ne, up_at, amSI_2], fun j hj => by simp (disch := omega) only [amU_at, amU_ne, amU_nj, amU_neR, up_ne, up_at, amSI_2]⟩
  refine mFirst hA2 (fun m' p1 f1 => ?_)
  refine goX6_laysBest hF 60 ?_
  simp (disch := omega) only [wX6_laysBest_0, uX6_laysBest_0, wX6_laysBest_1, wX6_laysBest_3, wX6_laysBest_6, wX6_laysBest_7, wX6_laysBest_10, uX6_laysBest_10, wX6_laysBest_11, wX6_laysBest_12, uX6_laysBest_12, wX6_laysBest_13, wX6_laysBest_16, wX6_laysBest_17, wX6_laysBest_20, wX6_laysBest_23, wX6_laysBest_24, wX6_laysBest_27, uX6_laysBest_27, wX6_laysBest_28, wX6_laysBest_31, wX6_laysBest_32, wX6_laysBest_33, wX6_laysBest_36, wX6_laysBest_37, wX6_laysBest_38, wX6_laysBest_41, wX6_laysBest_44, wX6_laysBest_45, wX6_laysBest_46, wX6_laysBest_49, wX6_laysBest_52, wX6_laysBest_53, wX6_laysBest_54, wX6_laysBest_57, wX6_laysBest_60, wX6_laysBest_61, wX6_laysBest_62, wX6_laysBest_65, wX6_laysBest_68, uX6_laysBest_68, wX6_laysBest_69, wX6_laysBest_70, wX6_laysBest_73, wX6_laysBest_76, wX6_laysBest_77, wX6_laysBest_78, wX6_laysBest_81, wX6_laysBest_82, wX6_laysBest_83, wX6_laysBest_86, uX6_laysBest_86, wX6_laysBest_87, wX6_laysBest_90, uX6_laysBest_90, wX6_laysBest_91, wX6_laysBest_94, amSI_1, amSI_2, amSI_3, amSI_s, amU_at, amIsR_ref, amIsR_null, amIsR_rf, amRf_some, amRf_none, amClr_int, amClr_ref, amClr_null, amClr_long, amClr_ra, amClr_rf, amFit_int, amFit_oref, amFit_aref, amFit_onull, amFit_anull, amOptSome, amOptNone, List.cons_append, List.nil_append, true_and, and_true, true_implies, not_true_eq_false, not_false_eq_true, false_implies, and_self, Nat.add_zero, Nat.zero_add, ne_eq, Prod.mk.injEq, amC01_0, amC01_1, amC01_nb, amNb0, amNb1, amTcpI_d, Nat.reduceLeDiff, Nat.reduceAdd, Nat.reduceSub, Nat.reduceEqDiff, Nat.le_refl, amN0le, hR.s, hR.r]
  refine loop t _ (21, 0, []) m' _ _ hr p1 ⟨fun i h1 h2 => ?_, fun j hj => ?_⟩ (Or.inl ⟨?_, rfl⟩) ?_
  · rw [f1 i h2]
    simp (disch := omega) only [amU_at, amU_ne, amU_nj, amU_neR, up_ne, up_at, amSI_2]
  · rw [f1 124 (by decide)]
    simp (disch := omega) only [amU_at, amU_ne, amU_nj, amU_neR, up_ne, up_at, amSI_2]
  · rw [f1 124 (by decide)]
    simp (disch := omega) only [amU_at, amU_ne, amU_nj, amU_neR, up_ne, up_at, amSI_2]
  · rw [← e]
    rfl
theorem tX6_laysBest_d {a : Nat} {h : amH} {K : Option Value → amH → Prop} : tX6_laysBest [.ref a] h K = ∃ S : HS, a = (124 : Nat) ∧ mdSys h S ∧ ∀ m', mbFr h.2.1 m' → m' 124 19 = nI (numL S.best.2.2) → m' 124 20 = nI S.best.1 → m' 124 21 = nI S.best.2.1 → K none (amSI h m') := rfl
