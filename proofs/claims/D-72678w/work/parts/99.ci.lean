/-! the system, being made: what stands so far -/
set_option maxRecDepth 100000
def shL : List (Nat × (Nat × Nat)) := [(30, (6, 3)), (31, (2, 20)), (32, (2, 20)), (33, (1, 7)), (34, (1, 7)), (35, (1, 7)), (36, (1, 7)), (41, (7, 6)), (42, (0, 3)), (43, (0, 4)), (44, (3, 90)), (55, (7, 6)), (56, (8, 4)), (57, (0, 5)), (58, (0, 5)), (59, (0, 5)), (60, (0, 5))]
def rL : List (Nat × Nat) := [(0, 25), (1, 30), (2, 31), (3, 32), (4, 33), (5, 34), (6, 35), (7, 36), (8, 37), (9, 39), (14, 41), (16, 42), (17, 43), (19, 45), (20, 50), (21, 55), (24, 56)]
def hsL (a : Nat) : Prop := a = 25 ∨ a = 45 ∨ a = 50 ∨ (61 ≤ a ∧ a < 121 ∧ (a - 61) % 5 = 0)
def bdL (b : Nat) : Prop := b = 37 ∨ b = 39
def cF (h : amH) (n f : Nat) : Prop := (h.2.2.2.2 = n) ∧ (24 < n) ∧ (h.1 24 = (0, 0)) ∧ (∀ j : Nat, h.2.1 24 j = 0) ∧ (∀ q ∈ rL, q.1 < f → h.2.2.2.1 24 q.1 = some q.2) ∧ (∀ q ∈ shL, q.1 < n → h.1 q.1 = q.2) ∧ (∀ a, hsL a → a + 5 ≤ n → hsAt h a) ∧ (∀ b, bdL b → b + 2 ≤ n → bdAt h b) ∧ (30 ≤ n → HsIs h.2.1 25 HSi) ∧ (44 < n → h.2.2.2.1 43 0 = some 44 ∧ h.2.1 43 1 = nI 0) ∧ (∀ s, s < 4 → 57 + s < n → h.2.2.2.1 (57 + s) 0 = none)
theorem cF.n {h : amH} {n f : Nat} (q : cF h n f) : h.2.2.2.2 = n := q.1
theorem cF.lo {h : amH} {n f : Nat} (q : cF h n f) : 24 < n := q.2.1
theorem cF.r0 {h : amH} {n f : Nat} (q : cF h n f) : h.1 24 = (0, 0) := q.2.2.1
theorem cF.i0 {h : amH} {n f : Nat} (q : cF h n f) : ∀ j : Nat, h.2.1 24 j = 0 := q.2.2.2.1
theorem cF.rf {h : amH} {n f : Nat} (q : cF h n f) : ∀ q ∈ rL, q.1 < f → h.2.2.2.1 24 q.1 = some q.2 := q.2.2.2.2.1
theorem cF.sh {h : amH} {n f : Nat} (q : cF h n f) : ∀ q ∈ shL, q.1 < n → h.1 q.1 = q.2 := q.2.2.2.2.2.1
theorem cF.hs {h : amH} {n f : Nat} (q : cF h n f) : ∀ a, hsL a → a + 5 ≤ n → hsAt h a := q.2.2.2.2.2.2.1
theorem cF.bd {h : amH} {n f : Nat} (q : cF h n f) : ∀ b, bdL b → b + 2 ≤ n → bdAt h b := q.2.2.2.2.2.2.2.1
theorem cF.nw {h : amH} {n f : Nat} (q : cF h n f) : 30 ≤ n → HsIs h.2.1 25 HSi := q.2.2.2.2.2.2.2.2.1
theorem cF.lt {h : amH} {n f : Nat} (q : cF h n f) : 44 < n → h.2.2.2.1 43 0 = some 44 ∧ h.2.1 43 1 = nI 0 := q.2.2.2.2.2.2.2.2.2.1
theorem cF.sn {h : amH} {n f : Nat} (q : cF h n f) : ∀ s, s < 4 → 57 + s < n → h.2.2.2.1 (57 + s) 0 = none := q.2.2.2.2.2.2.2.2.2.2
/-- to a heap with more cells -/
theorem cF.mv {h h' : amH} {n n' f : Nat} (q : cF h n f) (e : h'.2.2.2.2 = n') (hn : n ≤ n') (r0 : h'.1 24 = h.1 24) (i0 : h'.2.1 24 = h.2.1 24) (rf : ∀ q ∈ rL, q.1 < f → h'.2.2.2.1 24 q.1 = h.2.2.2.1 24 q.1) (f1 : ∀ i : Nat, i < n → i ≠ 24 → amSame h h' i)
    (sh : ∀ q ∈ shL, n ≤ q.1 → q.1 < n' → h'.1 q.1 = q.2) (hs : ∀ a, hsL a → n < a + 5 → a + 5 ≤ n' → hsAt h' a) (bd : ∀ b, bdL b → n < b + 2 → b + 2 ≤ n' → bdAt h' b) (nw : n < 30 → 30 ≤ n' → HsIs h'.2.1 25 HSi) (lt : n ≤ 44 → 44 < n' → h'.2.2.2.1 43 0 = some 44 ∧ h'.2.1 43 1 = nI 0) (sn : ∀ s, s < 4 → n ≤ 57 + s → 57 + s < n' → h'.2.2.2.1 (57 + s) 0 = none) : cF h' n' f := by
  have h24 := q.lo
  refine ⟨e, by omega, by rw [r0]; exact q.r0, fun j => by rw [i0]; exact q.i0 j, fun p hp hf => by rw [rf p hp hf]; exact q.rf p hp hf, fun p hp hl => ?_, fun a ha hl => ?_, fun b hb hl => ?_, fun hl => ?_, fun hl => ?_, fun s h4 hl => ?_⟩
  · by_cases c : p.1 < n
    · have p24 : p.1 ≠ 24 := by
        have : ∀ p ∈ shL, p.1 ≠ 24 := by decide
        exact this p hp
      rw [(f1 _ c p24).1]
      exact q.sh p hp c
    · exact sh p hp (by omega) hl
  · by_cases c : a + 5 ≤ n
    · have a25 : 25 ≤ a := by unfold hsL at ha; omega
      exact (q.hs a ha c).mv (fun i h1 h2 => ⟨(f1 i (by omega) (by omega)).1, (f1 i (by omega) (by omega)).2.2.2⟩)
    · exact hs a ha (by omega) hl
  · by_cases c : b + 2 ≤ n
    · have b25 : 25 ≤ b := by unfold bdL at hb; omega
      obtain ⟨b1, b2, b3⟩ := q.bd b hb c
      exact ⟨by rw [(f1 b (by omega) (by omega)).1]; exact b1, by rw [(f1 (b + 1) (by omega) (by omega)).1]; exact b2, by rw [(f1 b (by omega) (by omega)).2.2.2]; exact b3⟩
    · exact bd b hb (by omega) hl
  · by_cases c : 30 ≤ n
    · exact (q.nw c).kept (fun i h1 h2 => (f1 i (by omega) (by omega)).2.1)
    · exact nw (by omega) hl
  · by_cases c : 44 < n
    · rw [(f1 43 (by omega) (by omega)).2.2.2, (f1 43 (by omega) (by omega)).2.1]
      exact q.lt c
    · exact lt (by omega) hl
  · by_cases c : 57 + s < n
    · rw [(f1 (57 + s) c (by omega)).2.2.2]
      exact q.sn s h4 c
    · exact sn s h4 (by omega) hl
/-- an array made -/
theorem cF.arr {h : amH} {n f : Nat} {s : Nat × Nat} (q : cF h n f) (c1 : ∀ p ∈ shL, p.1 = n → s = p.2) (c2 : ∀ a, hsL a → a + 5 ≠ n + 1) (c3 : n ≠ 38 ∧ n ≠ 40 ∧ n ≠ 29 ∧ n ≠ 44) (c4 : n < 57 ∨ 61 ≤ n) : cF (amNew h s) (n + 1) f := by
  have hn := q.n
  have h24 := q.lo
  refine q.mv (by show h.2.2.2.2 + 1 = _; omega) (by omega) (amNew_1 (by omega)) (amNew_i (by omega)) (fun p _ _ => by rw [amNew_r (by omega)]) (fun i hi _ => amNew_same (by omega)) (fun p hp h1 h2 => ?_) (fun a ha h1 h2 => absurd (show a + 5 = n + 1 by omega) (c2 a ha)) (fun b hb h1 h2 => ?_) (fun h1 h2 => by omega) (fun h1 h2 => by omega) (fun s h4 h1 h2 => by omega)
  · have e : p.1 = n := by omega
    rw [e, ← hn, amNew_s0]
    exact c1 p hp e
  · unfold bdL at hb; omega
/-- one of its references -/
theorem cF.put {h : amH} {n f f' b : Nat} (q : cF h n f) (c : ∀ p ∈ rL, f ≤ p.1 → p.1 < f' → p = (f, b)) : cF (amWr h 24 f (.ref b)) n f' := by
  have h24 := q.lo
  have q' : cF (amWr h 24 f (.ref b)) n f := q.mv (by rw [amWr_n]; exact q.n) (Nat.le_refl _) (by rw [amWr_1]) rfl (fun p hp hl => amWr_rn (i := 0) (by omega)) (fun i hi h4 => amWr_same h4) (fun p hp h1 h2 => by omega) (fun a ha h1 h2 => by omega) (fun b hb h1 h2 => by omega) (fun h1 h2 => by omega) (fun h1 h2 => by omega) (fun s h4 h1 h2 => by omega)
  refine ⟨q'.n, q'.lo, q'.r0, q'.i0, fun p hp hl => ?_, q'.sh, q'.hs, q'.bd, q'.nw, q'.lt, q'.sn⟩
  by_cases c1 : p.1 < f
  · exact q'.rf p hp c1
  · have e := c p hp (by omega) hl
    rw [e]
    exact amWr_r
/-- a house made -/
theorem cF.hse {h h' : amH} {n f : Nat} (q : cF h n f) (fr : nwFr (amNew h (0, 1)) h' n 4) (at_ : hsAt h' n) (is_ : HsIs h'.2.1 n HSi) (c1 : n = 25 ∨ n = 45 ∨ n = 50 ∨ (61 ≤ n ∧ n < 121 ∧ (n - 61) % 5 = 0)) : cF h' (n + 5) f := by
  have hn := q.n
  have h24 := q.lo
  obtain ⟨f1, f2⟩ := fr
  have f1 : h'.2.2.2.2 = h.2.2.2.2 + 1 + 4 := f1
  have f2 : ∀ i : Nat, i < n → amSame h h' i := fun i hi => (amNew_same (by omega)).tr (f2 i (by show i < h.2.2.2.2 + 1; omega) (by omega))
  refine q.mv (by omega) (by omega) (f2 24 h24).1 (f2 24 h24).2.1 (fun p _ _ => by rw [(f2 24 h24).2.2.2]) (fun i hi _ => f2 i hi) (fun p hp h1 h2 => ?_) (fun a ha h1 h2 => ?_) (fun b hb h1 h2 => ?_) (fun h1 h2 => ?_) (fun h1 h2 => by omega) (fun s h4 h1 h2 => by omega)
  · exfalso
    have key : ∀ p ∈ shL, ¬ (25 ≤ p.1 ∧ p.1 < 30) ∧ ¬ (45 ≤ p.1 ∧ p.1 < 55) ∧ p.1 < 61 := by decide
    have := key p hp
    omega
  · have e : a = n := by unfold hsL at ha; omega
    rw [e]; exact at_
  · unfold bdL at hb; omega
  · have e : n = 25 := by omega
    rw [e] at is_; exact is_
/-- a board made -/
theorem cF.brd {h h' : amH} {n f : Nat} (q : cF h n f) (fr : nwFr (amNew h (0, 2)) h' n 1) (at_ : bdAt h' n) (c1 : n = 37 ∨ n = 39) : cF h' (n + 2) f := by
  have hn := q.n
  have h24 := q.lo
  obtain ⟨f1, f2⟩ := fr
  have f1 : h'.2.2.2.2 = h.2.2.2.2 + 1 + 1 := f1
  have f2 : ∀ i : Nat, i < n → amSame h h' i := fun i hi => (amNew_same (by omega)).tr (f2 i (by show i < h.2.2.2.2 + 1; omega) (by omega))
  refine q.mv (by omega) (by omega) (f2 24 h24).1 (f2 24 h24).2.1 (fun p _ _ => by rw [(f2 24 h24).2.2.2]) (fun i hi _ => f2 i hi) (fun p hp h1 h2 => ?_) (fun a ha h1 h2 => ?_) (fun b hb h1 h2 => ?_) (fun h1 h2 => by omega) (fun h1 h2 => by omega) (fun s h4 h1 h2 => by omega)
  · exfalso
    have key : ∀ p ∈ shL, ¬ (37 ≤ p.1 ∧ p.1 < 41) := by decide
    have := key p hp
    omega
  · unfold hsL at ha; omega
  · have e : b = n := by unfold bdL at hb; omega
    rw [e]; exact at_
/-- the fault made -/
theorem cF.flt {h h' : amH} {f : Nat} (q : cF h 42 f) (fr : slFr (amNew h (0, 3)) h' 42) : cF h' 43 f := by
  have hn := q.n
  have h24 := q.lo
  obtain ⟨f0, f1, f2⟩ := fr
  have f0 : h'.2.2.2.2 = h.2.2.2.2 + 1 := f0
  have f3 : ∀ i : Nat, i < 42 → amSame h h' i := fun i hi => (amNew_same (by omega)).tr (f2 i (by omega))
  refine q.mv (by omega) (by omega) (f3 24 h24).1 (f3 24 h24).2.1 (fun p _ _ => by rw [(f3 24 h24).2.2.2]) (fun i hi _ => f3 i hi) (fun p hp h1 h2 => ?_) (fun a ha h1 h2 => ?_) (fun b hb h1 h2 => ?_) (fun h1 h2 => by omega) (fun h1 h2 => by omega) (fun s h4 h1 h2 => by omega)
  · have key : ∀ p ∈ shL, p.1 = 42 → p.2 = (0, 3) := by decide
    have e : p.1 = 42 := by omega
    rw [key p hp e, f1, e, ← hn, amNew_s0]
  · unfold hsL at ha; omega
  · unfold bdL at hb; omega
/-- the tape made -/
theorem cF.ltr {h h' : amH} {f : Nat} (q : cF h 43 f) (fr : nwFr (amNew h (0, 4)) h' 43 1) (s1 : h'.1 43 = (0, 4)) (s2 : h'.1 44 = (3, 90)) (s3 : h'.2.2.2.1 43 0 = some 44) (s4 : h'.2.1 43 = (amNew h (0, 4)).2.1 43) : cF h' 45 f := by
  have hn := q.n
  have h24 := q.lo
  obtain ⟨f1, f2⟩ := fr
  have f1 : h'.2.2.2.2 = h.2.2.2.2 + 1 + 1 := f1
  have f2 : ∀ i : Nat, i < 43 → amSame h h' i := fun i hi => (amNew_same (by omega)).tr (f2 i (by show i < h.2.2.2.2 + 1; omega) (by omega))
  refine q.mv (by omega) (by omega) (f2 24 h24).1 (f2 24 h24).2.1 (fun p _ _ => by rw [(f2 24 h24).2.2.2]) (fun i hi _ => f2 i hi) (fun p hp h1 h2 => ?_) (fun a ha h1 h2 => ?_) (fun b hb h1 h2 => ?_) (fun h1 h2 => by omega) (fun h1 h2 => ⟨s3, ?_⟩) (fun s h4 h1 h2 => by omega)
  · have key : ∀ p ∈ shL, (p.1 = 43 → p.2 = (0, 4)) ∧ (p.1 = 44 → p.2 = (3, 90)) := by decide
    rcases (show p.1 = 43 ∨ p.1 = 44 by omega) with e | e
    · rw [(key p hp).1 e, e]; exact s1
    · rw [(key p hp).2 e, e]; exact s2
  · unfold hsL at ha; omega
  · unfold bdL at hb; omega
  · rw [s4, ← hn, amNew_i0]; rfl
/-- a sheet made -/
theorem cF.sht {h : amH} {s f : Nat} (q : cF h (57 + s) f) (h4 : s < 4) : cF (amNew h (0, 5)) (57 + s + 1) f := by
  have hn := q.n
  have h24 := q.lo
  refine q.mv (by show h.2.2.2.2 + 1 = _; omega) (by omega) (amNew_1 (by omega)) (amNew_i (by omega)) (fun p _ _ => by rw [amNew_r (by omega)]) (fun i hi _ => amNew_same (by omega)) (fun p hp h1 h2 => ?_) (fun a ha h1 h2 => ?_) (fun b hb h1 h2 => ?_) (fun h1 h2 => by omega) (fun h1 h2 => by omega) (fun s' h4' h1 h2 => ?_)
  · have key : ∀ p ∈ shL, 57 ≤ p.1 → p.2 = (0, 5) := by decide
    have e : p.1 = 57 + s := by omega
    rw [key p hp (by omega), e, ← hn, amNew_s0]
  · unfold hsL at ha; omega
  · unfold bdL at hb; omega
  · have e : 57 + s' = 57 + s := by omega
    rw [e, ← hn]
    show (if _ = _ then (fun _ => none) else _) 0 = none
    rw [if_pos rfl]
/-- a store in an array of references -/
theorem cF.ast {h : amH} {n f a k b : Nat} (q : cF h n f) (c : a = 30 ∨ a = 41 ∨ a = 55 ∨ a = 56) : cF (amWr h a k (.ref b)) n f := by
  have h24 := q.lo
  have r : ∀ i : Nat, i ≠ a → (amWr h a k (.ref b)).2.2.2.1 i = h.2.2.2.1 i := fun i hi => (amWr_same hi).2.2.2
  exact ⟨by rw [amWr_n]; exact q.n, h24, by rw [amWr_1]; exact q.r0, q.i0, fun p hp hl => by rw [r 24 (by omega)]; exact q.rf p hp hl, fun p hp hl => by rw [amWr_1]; exact q.sh p hp hl, fun x hx hl => (q.hs x hx hl).mv (fun i h1 h2 => ⟨by rw [amWr_1], r i (by unfold hsL at hx; omega)⟩), fun x hx hl => by
    obtain ⟨b1, b2, b3⟩ := q.bd x hx hl
    exact ⟨by rw [amWr_1]; exact b1, by rw [amWr_1]; exact b2, by rw [r x (by unfold bdL at hx; omega)]; exact b3⟩, q.nw, fun hl => by rw [r 43 (by omega)]; exact q.lt hl, fun s h4 hl => by rw [r _ (by omega)]; exact q.sn s h4 hl⟩
