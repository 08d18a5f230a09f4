/-! a text, read: plain -/
set_option maxRecDepth 100000
/-- past the blanks -/
def skipF : Nat → List Nat → Nat → Nat
  | 0, _, p => p
  | f + 1, t, p => if t.getD p 0 = 32 then skipF f t (p + 1) else p
def skip (t : List Nat) (p : Nat) : Nat := skipF (t.length - p) t p
/-- the letters that may stand on a tape -/
def tOk (t : List Nat) : Prop := ∀ c ∈ t, 32 ≤ c ∧ c ≤ 126
theorem chr_out {t : List Nat} {p : Nat} (h : t.length ≤ p) : t.getD p 0 = 0 := by
  rw [List.getD_eq_getElem?_getD, List.getElem?_eq_none h]; rfl
theorem tOk.le {t : List Nat} (h : tOk t) (p : Nat) : t.getD p 0 ≤ 126 := by
  by_cases q : p < t.length
  · exact (h _ (getD_mem q)).2
  · rw [chr_out (by omega)]; decide
theorem tOk.ge {t : List Nat} (h : tOk t) {p : Nat} (q : p < t.length) : 32 ≤ t.getD p 0 := (h _ (getD_mem q)).1
theorem chr_lt {t : List Nat} {p : Nat} (h : ¬ t.getD p 0 = 0) : p < t.length := by
  apply Classical.byContradiction
  intro q
  exact h (chr_out (by omega))
theorem skipF_le (t : List Nat) : ∀ f p, p + f = t.length → p ≤ skipF f t p ∧ skipF f t p ≤ t.length ∧ ¬ t.getD (skipF f t p) 0 = 32
  | 0, p, e => by
    rw [skipF]
    exact ⟨Nat.le_refl _, by omega, by rw [chr_out (by omega)]; decide⟩
  | f + 1, p, e => by
    rw [skipF]
    split
    · obtain ⟨h1, h2, h3⟩ := skipF_le t f (p + 1) (by omega)
      exact ⟨by omega, h2, h3⟩
    · next h => exact ⟨Nat.le_refl _, by omega, h⟩
theorem skip_le {t : List Nat} {p : Nat} (h : p ≤ t.length) : p ≤ skip t p ∧ skip t p ≤ t.length ∧ ¬ t.getD (skip t p) 0 = 32 := skipF_le t _ p (by omega)
theorem skip_no {t : List Nat} {p : Nat} (h : ¬ t.getD p 0 = 32) : skip t p = p := by
  unfold skip
  cases t.length - p with
  | zero => rfl
  | succ f => rw [skipF, if_neg h]
theorem skip_id {t : List Nat} {p : Nat} (h : p ≤ t.length) : skip t (skip t p) = skip t p := skip_no (skip_le h).2.2
/-- a word stands there, and no letter behind it -/
abbrev isW (t : List Nat) (p : Nat) (w : List Nat) : Prop := (∀ i, i < w.length → t.getD (p + i) 0 = w.getD i 0) ∧ ¬ (97 ≤ t.getD (p + w.length) 0 ∧ t.getD (p + w.length) 0 ≤ 122)
def wd0 : List Nat := [115, 116, 101, 97, 100, 121]
def wd1 : List Nat := [103, 114, 111, 119, 105, 110, 103]
def wd2 : List Nat := [100, 111, 117, 98, 108, 105, 110, 103]
def ruleW (t : List Nat) (p : Nat) : Option Nat := if isW t p wd0 then some 0 else if isW t p wd1 then some 1 else if isW t p wd2 then some 2 else none
theorem ruleW_0 {t : List Nat} {p : Nat} (h : isW t p wd0) : ruleW t p = some 0 := if_pos h
theorem ruleW_1 {t : List Nat} {p : Nat} (h0 : ¬ isW t p wd0) (h : isW t p wd1) : ruleW t p = some 1 := (if_neg h0).trans (if_pos h)
theorem ruleW_2 {t : List Nat} {p : Nat} (h0 : ¬ isW t p wd0) (h1 : ¬ isW t p wd1) (h : isW t p wd2) : ruleW t p = some 2 := (if_neg h0).trans ((if_neg h1).trans (if_pos h))
theorem ruleW_n {t : List Nat} {p : Nat} (h0 : ¬ isW t p wd0) (h1 : ¬ isW t p wd1) (h2 : ¬ isW t p wd2) : ruleW t p = none := (if_neg h0).trans ((if_neg h1).trans (if_neg h2))
/-- what the rules' words say, whichever -/
theorem ruleW_ok {t : List Nat} {p r : Nat} (h : ruleW t p = some r) : r ≤ 2 ∧ p + 6 + r ≤ t.length := by
  have wl : ∀ w : List Nat, isW t p w → ∀ i, i < w.length → ¬ w.getD i 0 = 0 → p + i < t.length := fun w q i hi h0 => chr_lt (by rw [q.1 i hi]; exact h0)
  by_cases h0 : isW t p wd0
  · rw [ruleW_0 h0] at h; cases h
    have := wl _ h0 5 (by decide) (by decide)
    omega
  · by_cases h1 : isW t p wd1
    · rw [ruleW_1 h0 h1] at h; cases h
      have := wl _ h1 6 (by decide) (by decide)
      omega
    · by_cases h2 : isW t p wd2
      · rw [ruleW_2 h0 h1 h2] at h; cases h
        have := wl _ h2 7 (by decide) (by decide)
        omega
      · rw [ruleW_n h0 h1 h2] at h; cases h
/-- the letters of a book: the set, where they end -/
def letF : Nat → List Nat → Nat → Nat → Nat × Nat
  | 0, _, p, s => (s, p)
  | f + 1, t, p, s => if 97 ≤ t.getD p 0 ∧ t.getD p 0 ≤ 116 then letF f t (p + 1) (s ||| 2 ^ (t.getD p 0 - 97)) else (s, p)
def letT (t : List Nat) (p : Nat) : Nat × Nat := letF (t.length - p) t p 0
theorem letF_ok (t : List Nat) : ∀ f p s, p + f = t.length → s < 1048576 → (letF f t p s).1 < 1048576 ∧ s ≤ (letF f t p s).1 ∧ p ≤ (letF f t p s).2 ∧ (letF f t p s).2 ≤ t.length ∧ ¬ (97 ≤ t.getD (letF f t p s).2 0 ∧ t.getD (letF f t p s).2 0 ≤ 116)
  | 0, p, s, e, hs => by
    rw [letF]
    exact ⟨hs, Nat.le_refl _, Nat.le_refl _, by omega, by rw [chr_out (by omega)]; omega⟩
  | f + 1, p, s, e, hs => by
    rw [letF]
    split
    · next h =>
      have b : 2 ^ (t.getD p 0 - 97) < 2 ^ 20 := p2_lt (by omega)
      obtain ⟨h1, h2, h3, h4, h5⟩ := letF_ok t f (p + 1) (s ||| 2 ^ (t.getD p 0 - 97)) (by omega) (or_lt (n := 20) hs b)
      have := Nat.left_le_or (n := s) (m := 2 ^ (t.getD p 0 - 97))
      exact ⟨h1, by omega, by omega, h4, h5⟩
    · next h => exact ⟨hs, Nat.le_refl _, Nat.le_refl _, by omega, h⟩
theorem letT_ok {t : List Nat} {p : Nat} (hp : p < t.length) (h : 97 ≤ t.getD p 0 ∧ t.getD p 0 ≤ 116) : 0 < (letT t p).1 ∧ (letT t p).1 < 1048576 ∧ p < (letT t p).2 ∧ (letT t p).2 ≤ t.length ∧ ¬ (97 ≤ t.getD (letT t p).2 0 ∧ t.getD (letT t p).2 0 ≤ 116) := by
  unfold letT
  obtain ⟨f, hf⟩ : ∃ f, t.length - p = f + 1 := ⟨t.length - p - 1, by omega⟩
  rw [hf, letF, if_pos h, Nat.zero_or]
  have b : 2 ^ (t.getD p 0 - 97) < 2 ^ 20 := p2_lt (by omega)
  have b0 : 0 < 2 ^ (t.getD p 0 - 97) := Nat.two_pow_pos _
  obtain ⟨h1, h2, h3, h4, h5⟩ := letF_ok t f (p + 1) (2 ^ (t.getD p 0 - 97)) (by omega) b
  exact ⟨by omega, h1, by omega, h4, h5⟩
def bookT (t : List Nat) (S : HS) (p : Nat) : Nat × Option HS := if (97 ≤ t.getD (skip t p) 0 ∧ t.getD (skip t p) 0 ≤ 116) ∧ ¬ S.ord.length = 7 then ((letT t (skip t p)).2, some (S.add (letT t (skip t p)).1)) else (skip t p, none)
/-- one thing after the other, with commas between -/
def manyT (g : HS → Nat → Nat × Option HS) (t : List Nat) : Nat → HS → Nat → Nat × Option HS
  | 0, _, p => (p, none)
  | f + 1, S, p => match (g S p).2 with
    | none => ((g S p).1, none)
    | some S' => if t.getD (skip t (g S p).1) 0 = 44 then manyT g t f S' (skip t (g S p).1 + 1) else (skip t (g S p).1, some S')
def pairT (t : List Nat) (S : HS) (p : Nat) : Nat × Option HS :=
  if 48 ≤ t.getD (skip t p) 0 ∧ t.getD (skip t p) 0 < 48 + S.ord.length then
    (if (48 ≤ t.getD (skip t (skip t p + 1)) 0 ∧ t.getD (skip t (skip t p + 1)) 0 < 48 + S.ord.length) ∧ (S.ahead.getD (t.getD (skip t p) 0 - 48) 0).testBit (t.getD (skip t (skip t p + 1)) 0 - 48) = false ∧ S.mayBe (t.getD (skip t p) 0 - 48) (t.getD (skip t (skip t p + 1)) 0 - 48) = true then
      (skip t (skip t p + 1) + 1, some (S.flip (t.getD (skip t p) 0 - 48) (t.getD (skip t (skip t p + 1)) 0 - 48)))
    else (skip t (skip t p + 1), none))
  else (skip t p, none)
def HS.clr (S : HS) (r sp : Nat) : HS := ([], [], [], S.prior, sp, S.bound, r, S.draw)
def endT (t : List Nat) (q : Nat × Option HS) : Nat × Option HS := match q.2 with
  | none => (q.1, none)
  | some S => if t.getD q.1 0 = 0 then (q.1, some S) else (q.1, none)
def moreT (t : List Nat) (q : Nat × Option HS) : Nat × Option HS := match q.2 with
  | none => (q.1, none)
  | some S => if t.getD q.1 0 = 59 then endT t (manyT (pairT t) t 91 S (q.1 + 1)) else endT t (q.1, some S)
/-- behind the rule -/
def bodyT (S : HS) (t : List Nat) (r p : Nat) : Nat × Option HS :=
  if 49 ≤ t.getD (skip t p) 0 ∧ t.getD (skip t p) 0 ≤ 52 then
    (if t.getD (skip t (skip t p + 1)) 0 = 58 then moreT t (manyT (bookT t) t 8 (S.clr r (t.getD (skip t p) 0 - 48)) (skip t (skip t p + 1) + 1)) else (skip t (skip t p + 1), none))
  else (skip t p, none)
def readT (S : HS) (t : List Nat) : Nat × Option HS := match ruleW t (skip t 0) with
  | none => (skip t 0, none)
  | some r => bodyT S t r (skip t 0 + 6 + r)
def readR (X : XS) : XS × Int32 := match (readT X.1 X.2.2.2.1).2 with
  | none => ((X.1, X.2.1, X.2.2.1, [], X.2.2.2.2), -20 - nI (readT X.1 X.2.2.2.1).1)
  | some S => ((S, noteU X.2.1 X.1, X.2.2.1, [], X.2.2.2.2), nI S.ord.length)
theorem hsOk.clr {S : HS} (h : hsOk S) {r sp : Nat} (hr : r ≤ 2) (h1 : 1 ≤ sp) (h4 : sp ≤ 4) : hsOk (S.clr r sp) := by
  refine ⟨⟨h1, h4, hr, h.B.2.2.2⟩, fun x hx => absurd hx List.not_mem_nil, h.bd, List.nodup_nil, fun x hx => absurd hx List.not_mem_nil, Nat.zero_le _, rfl, rfl, fun x hx => absurd hx List.not_mem_nil, fun x hx => absurd hx List.not_mem_nil, h.dr, ⟨fun _ => 0, fun a b ha => absurd ha (Nat.not_lt_zero a)⟩, fun k hk => absurd hk (Nat.not_lt_zero k)⟩
theorem bookT_ok {t : List Nat} {S S' : HS} {p : Nat} (h : hsOk S) (hp : p ≤ t.length) (e : (bookT t S p).2 = some S') : hsOk S' ∧ S'.ord.length = S.ord.length + 1 ∧ p < (bookT t S p).1 ∧ (bookT t S p).1 ≤ t.length := by
  unfold bookT at e ⊢
  split at e
  · next c =>
    rw [if_pos c]
    have hq := chr_lt (t := t) (p := skip t p) (by omega)
    obtain ⟨l1, l2, l3, l4, l5⟩ := letT_ok hq c.1
    have k := skip_le hp
    have n7 := h.n7
    have e : S.add (letT t (skip t p)).1 = S' := Option.some.inj e
    subst e
    refine ⟨h.add (by omega) l1 l2, by show (S.ord ++ [_]).length = _; simp, ?_, l4⟩
    show p < (letT t (skip t p)).2
    omega
  · cases e
theorem pairT_ok {t : List Nat} {S S' : HS} {p : Nat} (h : hsOk S) (hp : p ≤ t.length) (e : (pairT t S p).2 = some S') : hsOk S' ∧ S'.ord.length = S.ord.length ∧ p < (pairT t S p).1 ∧ (pairT t S p).1 ≤ t.length := by
  unfold pairT at e ⊢
  split at e
  · next c =>
    rw [if_pos c]
    have hq := chr_lt (t := t) (p := skip t p) (by omega)
    have k := skip_le hp
    have k2 := skip_le (t := t) (p := skip t p + 1) (by omega)
    split at e
    · next d =>
      rw [if_pos d]
      have hq2 := chr_lt (t := t) (p := skip t (skip t p + 1)) (by omega)
      have e := Option.some.inj e
      subst e
      refine ⟨h.flip (by omega) (by omega) (Or.inr d.2.2), rfl, ?_, hq2⟩
      show p < skip t (skip t p + 1) + 1
      omega
    · cases e
  · cases e
theorem manyT_n {g : HS → Nat → Nat × Option HS} {t : List Nat} {f : Nat} {S : HS} {p : Nat} (h : (g S p).2 = none) : manyT g t (f + 1) S p = ((g S p).1, none) := by rw [manyT, h]
theorem manyT_m {g : HS → Nat → Nat × Option HS} {t : List Nat} {f : Nat} {S S' : HS} {p : Nat} (h : (g S p).2 = some S') (c : t.getD (skip t (g S p).1) 0 = 44) : manyT g t (f + 1) S p = manyT g t f S' (skip t (g S p).1 + 1) := by
  rw [manyT, h]
  exact if_pos c
theorem manyT_e {g : HS → Nat → Nat × Option HS} {t : List Nat} {f : Nat} {S S' : HS} {p : Nat} (h : (g S p).2 = some S') (c : ¬ t.getD (skip t (g S p).1) 0 = 44) : manyT g t (f + 1) S p = (skip t (g S p).1, some S') := by
  rw [manyT, h]
  exact if_neg c
theorem bookT_no {t : List Nat} {S : HS} {p : Nat} (hp : p ≤ t.length) (e : (bookT t S p).2 = none) : (bookT t S p).1 ≤ t.length ∧ ¬ t.getD (bookT t S p).1 0 = 32 := by
  unfold bookT at e ⊢
  split at e
  · cases e
  · next c =>
    rw [if_neg c]
    exact (skip_le hp).2
theorem pairT_no {t : List Nat} {S : HS} {p : Nat} (hp : p ≤ t.length) (e : (pairT t S p).2 = none) : (pairT t S p).1 ≤ t.length ∧ ¬ t.getD (pairT t S p).1 0 = 32 := by
  unfold pairT at e ⊢
  split at e
  · next c =>
    rw [if_pos c]
    have hq := chr_lt (t := t) (p := skip t p) (by omega)
    split at e
    · cases e
    · next d =>
      rw [if_neg d]
      exact (skip_le (t := t) (p := skip t p + 1) (by omega)).2
  · next c =>
    rw [if_neg c]
    exact (skip_le hp).2
def thruT (t : List Nat) (q : Nat × Option HS) : Prop := q.1 ≤ t.length ∧ ¬ t.getD q.1 0 = 32 ∧ ∀ S, q.2 = some S → hsOk S ∧ 0 < S.ord.length
theorem booksT_ok {t : List Nat} : ∀ f S p, f + S.ord.length = 8 → hsOk S → p ≤ t.length → thruT t (manyT (bookT t) t f S p)
  | 0, S, p, e, h, _ => by have := h.n7; omega
  | f + 1, S, p, e, h, hp => by
    cases hb : (bookT t S p).2 with
    | none =>
      rw [manyT_n hb]
      obtain ⟨b1, b2⟩ := bookT_no hp hb
      exact ⟨b1, b2, fun S' y => by cases y⟩
    | some S' =>
      obtain ⟨b1, b2, b3, b4⟩ := bookT_ok h hp hb
      have k := skip_le b4
      by_cases c : t.getD (skip t (bookT t S p).1) 0 = 44
      · rw [manyT_m hb c]
        have := chr_lt (t := t) (p := skip t (bookT t S p).1) (by omega)
        exact booksT_ok f S' _ (by omega) b1 this
      · rw [manyT_e hb c]
        exact ⟨k.2.1, k.2.2, fun S'' y => by cases y; exact ⟨b1, by omega⟩⟩
theorem pairsT_ok {t : List Nat} : ∀ f S p, t.length < p + f → hsOk S → 0 < S.ord.length → p ≤ t.length → thruT t (manyT (pairT t) t f S p)
  | 0, S, p, e, h, _, hp => by omega
  | f + 1, S, p, e, h, n0, hp => by
    cases hb : (pairT t S p).2 with
    | none =>
      rw [manyT_n hb]
      obtain ⟨b1, b2⟩ := pairT_no hp hb
      exact ⟨b1, b2, fun S' y => by cases y⟩
    | some S' =>
      obtain ⟨b1, b2, b3, b4⟩ := pairT_ok h hp hb
      have k := skip_le b4
      by_cases c : t.getD (skip t (pairT t S p).1) 0 = 44
      · rw [manyT_m hb c]
        have := chr_lt (t := t) (p := skip t (pairT t S p).1) (by omega)
        exact pairsT_ok f S' _ (by omega) b1 (by omega) this
      · rw [manyT_e hb c]
        exact ⟨k.2.1, k.2.2, fun S'' y => by cases y; exact ⟨b1, by omega⟩⟩
theorem endT_ok {t : List Nat} {q : Nat × Option HS} (h : thruT t q) : thruT t (endT t q) := by
  obtain ⟨p, o⟩ := q
  cases o with
  | none => exact h
  | some S =>
    show thruT t (if t.getD p 0 = 0 then (p, some S) else (p, none))
    split
    · exact h
    · exact ⟨h.1, h.2.1, fun S' y => by cases y⟩
theorem moreT_ok {t : List Nat} {q : Nat × Option HS} (t90 : t.length ≤ 90) (h : thruT t q) : thruT t (moreT t q) := by
  obtain ⟨p, o⟩ := q
  cases o with
  | none => exact h
  | some S =>
    show thruT t (if t.getD p 0 = 59 then endT t (manyT (pairT t) t 91 S (p + 1)) else endT t (p, some S))
    split
    · next c =>
      obtain ⟨o1, o2⟩ := h.2.2 S rfl
      have := chr_lt (t := t) (p := p) (by omega)
      exact endT_ok (pairsT_ok 91 S (p + 1) (by omega) o1 o2 this)
    · exact endT_ok h
theorem bodyT_ok {S : HS} {t : List Nat} {r p : Nat} (hO : hsOk S) (t90 : t.length ≤ 90) (hr : r ≤ 2) (hp : p ≤ t.length) : thruT t (bodyT S t r p) := by
  have no : ∀ q, q ≤ t.length ∧ ¬ t.getD q 0 = 32 → thruT t (q, none) := fun q z => ⟨z.1, z.2, fun S' y => by cases y⟩
  unfold bodyT
  split
  · next c =>
    have hq := chr_lt (t := t) (p := skip t p) (by omega)
    split
    · next d =>
      have hq2 := chr_lt (t := t) (p := skip t (skip t p + 1)) (by omega)
      exact moreT_ok t90 (booksT_ok 8 _ _ rfl (hO.clr hr (by omega) (by omega)) hq2)
    · exact no _ (skip_le (by omega)).2
  · exact no _ (skip_le hp).2
theorem readT_ok {S : HS} {t : List Nat} (hO : hsOk S) (t90 : t.length ≤ 90) : thruT t (readT S t) := by
  unfold readT
  cases hr : ruleW t (skip t 0) with
  | none => exact ⟨(skip_le (Nat.zero_le _)).2.1, (skip_le (Nat.zero_le _)).2.2, fun S' y => by cases y⟩
  | some r =>
    obtain ⟨r1, r2⟩ := ruleW_ok hr
    exact bodyT_ok hO t90 r1 r2
theorem readT_n {S : HS} {t : List Nat} (h : ruleW t (skip t 0) = none) : readT S t = (skip t 0, none) := by unfold readT; rw [h]
theorem readT_s {S : HS} {t : List Nat} {r : Nat} (h : ruleW t (skip t 0) = some r) : readT S t = bodyT S t r (skip t 0 + 6 + r) := by unfold readT; rw [h]
