/-! what every house keeps, through every act (plain) -/
set_option maxRecDepth 100000
def subB (a b : Nat) : Prop := ∀ i, a.testBit i = true → b.testBit i = true
theorem subB.rf (a : Nat) : subB a a := fun _ h => h
theorem subB.tr {a b c : Nat} (h : subB a b) (g : subB b c) : subB a c := fun i q => g i (h i q)
theorem subB.anti {a b : Nat} (h : subB a b) (g : subB b a) : a = b := Nat.eq_of_testBit_eq (fun i => by
  cases ha : a.testBit i with
  | false =>
    cases hb : b.testBit i with
    | false => rfl
    | true => rw [g i hb] at ha; cases ha
  | true => rw [h i ha])
theorem subB.and {a b : Nat} (h : subB a b) : a &&& b = a := Nat.eq_of_testBit_eq (fun i => by
  rw [Nat.testBit_and]
  cases ha : a.testBit i with
  | false => rfl
  | true => rw [h i ha]; rfl)
theorem bhStep_sub (A : List Nat) (s k : Nat) : subB s (bhStep A s k) := by
  intro i h
  unfold bhStep
  split
  · rw [Nat.testBit_or, h]; rfl
  · exact h
theorem bhFold_sub (A : List Nat) : ∀ p s, subB s ((List.range p).foldl (bhStep A) s)
  | 0, s => subB.rf s
  | p + 1, s => by rw [range_fold]; exact (bhFold_sub A p s).tr (bhStep_sub A _ p)
theorem bhFold_fix (A : List Nat) : ∀ p s, (List.range p).foldl (bhStep A) s = s → ∀ k, k < p → s.testBit k = true → subB (A.getD k 0) s
  | 0, s, _, k, hk, _ => absurd hk (Nat.not_lt_zero k)
  | p + 1, s, h, k, hk, hb => by
    rw [range_fold] at h
    have e : (List.range p).foldl (bhStep A) s = s := by
      refine (subB.anti (bhFold_sub A p s) ?_).symm
      have := bhStep_sub A ((List.range p).foldl (bhStep A) s) p
      rw [h] at this
      exact this
    by_cases q : k = p
    · subst q
      rw [e] at h
      unfold bhStep at h
      rw [if_pos hb] at h
      intro i hi
      rw [← h, Nat.testBit_or, hi, Bool.or_true]
    · exact bhFold_fix A p s e k (by omega) hb
theorem cnt7_lt : ∀ a, a < 128 → ∀ b, b < 128 → a &&& b = a → a ≠ b → cnt7 a < cnt7 b := by decide +kernel
theorem cnt7_le (a : Nat) : cnt7 a ≤ 7 := cntB_le _ _
theorem bhN_fix {A : List Nat} (hA : ∀ x ∈ A, x < 128) : ∀ t s, s < 128 → bhN A (t + 1) s = bhN A t s ∨ t + 1 + cnt7 s ≤ cnt7 (bhN A (t + 1) s)
  | 0, s, hs => by
    by_cases e : bhN A 1 s = bhN A 0 s
    · exact Or.inl e
    · right
      have h1 := bhN_lt hA 1 s hs
      have h2 : subB s (bhN A 1 s) := bhFold_sub A _ _
      have h3 : cnt7 s < cnt7 (bhN A (0 + 1) s) := cnt7_lt s hs _ h1 h2.and (fun q => e q.symm)
      omega
  | t + 1, s, hs => by
    by_cases e : bhN A (t + 2) s = bhN A (t + 1) s
    · exact Or.inl e
    · right
      have h0 := bhN_lt hA (t + 1) s hs
      have h1 := bhN_lt hA (t + 2) s hs
      have h2 : subB (bhN A (t + 1) s) (bhN A (t + 2) s) := bhFold_sub A _ _
      have h3 : cnt7 (bhN A (t + 1) s) < cnt7 (bhN A (t + 1 + 1) s) := cnt7_lt _ h0 _ h1 h2.and (fun q => e q.symm)
      rcases bhN_fix hA t s hs with q | q
      · refine absurd ?_ e
        show bhRound A (bhN A (t + 1) s) = bhN A (t + 1) s
        rw [q]
        exact q
      · omega
theorem bhN_stay {A : List Nat} {t s : Nat} (h : bhN A (t + 1) s = bhN A t s) : ∀ u, bhN A (t + u) s = bhN A t s
  | 0 => rfl
  | u + 1 => by
    show bhRound A (bhN A (t + u) s) = _
    rw [bhN_stay h u]
    exact h
theorem bh_closed {A : List Nat} (hA : ∀ x ∈ A, x < 128) (hn : A.length ≤ 7) (s : Nat) (hs : s < 128) : bhRound A (bhN A 7 s) = bhN A 7 s := by
  rcases bhN_fix hA 7 s hs with q | q
  · exact q
  · have h1 := cnt7_le (bhN A (7 + 1) s)
    omega
/-- what is behind is closed -/
theorem behind_closed {A : List Nat} (hA : ∀ x ∈ A, x < 128) (hn : A.length ≤ 7) {s k : Nat} (hs : s < 128) (hk : k < A.length) (hb : (bhN A 7 s).testBit k = true) : subB (A.getD k 0) (bhN A 7 s) := bhFold_fix A A.length _ (bh_closed hA hn s hs) k hk hb
theorem behind_sub {A : List Nat} : ∀ t s, subB s (bhN A t s)
  | 0, s => subB.rf s
  | t + 1, s => (behind_sub t s).tr (bhFold_sub A _ _)
theorem getD_lt {A : List Nat} {N : Nat} (h0 : 0 < N) (hA : ∀ x ∈ A, x < N) (k : Nat) : A.getD k 0 < N := by
  by_cases q : k < A.length
  · exact hA _ (getD_mem q)
  · rw [List.getD_eq_getElem?_getD, List.getElem?_eq_none (by omega)]; exact h0
theorem setl_getD {l : List Nat} {k x i : Nat} (hk : k < l.length) : (l.set k x).getD i 0 = if i = k then x else l.getD i 0 := by
  rw [List.getD_eq_getElem?_getD, List.getElem?_set]
  by_cases e : k = i
  · subst e; simp [hk]
  · rw [if_neg e, if_neg (fun q => e q.symm), List.getD_eq_getElem?_getD]
theorem hsOk.B {S : HS} (h : hsOk S) : hsB S := h.1
theorem hsOk.X {S : HS} (h : hsOk S) : setsB S := h.2.1
theorem hsOk.bd {S : HS} (h : hsOk S) : S.bound ≤ 20 := h.2.2.1
theorem hsOk.nd {S : HS} (h : hsOk S) : S.ord.Nodup := h.2.2.2.1
theorem hsOk.lt {S : HS} (h : hsOk S) : ∀ x ∈ S.ord, x < S.ord.length := h.2.2.2.2.1
theorem hsOk.n7 {S : HS} (h : hsOk S) : S.ord.length ≤ 7 := h.2.2.2.2.2.1
theorem hsOk.ls {S : HS} (h : hsOk S) : S.sets.length = S.ord.length := h.2.2.2.2.2.2.1
theorem hsOk.la {S : HS} (h : hsOk S) : S.ahead.length = S.ord.length := h.2.2.2.2.2.2.2.1
theorem hsOk.al {S : HS} (h : hsOk S) : ∀ x ∈ S.ahead, x < 2 ^ S.ord.length := h.2.2.2.2.2.2.2.2.1
theorem hsOk.sp {S : HS} (h : hsOk S) : ∀ x ∈ S.sets, 0 < x := h.2.2.2.2.2.2.2.2.2.1
theorem hsOk.dr {S : HS} (h : hsOk S) : S.draw < 2147483648 := h.2.2.2.2.2.2.2.2.2.2.1
theorem hsOk.rk {S : HS} (h : hsOk S) : rankP S := h.2.2.2.2.2.2.2.2.2.2.2.1
theorem hsOk.mem {S : HS} (h : hsOk S) : ∀ k, k < S.ord.length → k ∈ S.ord := h.2.2.2.2.2.2.2.2.2.2.2.2
theorem hsOk.a128 {S : HS} (h : hsOk S) : ∀ x ∈ S.ahead, x < 128 := fun x hx => Nat.lt_of_lt_of_le (h.al x hx) (Nat.pow_le_pow_right (by decide) h.n7 : _ ≤ 2 ^ 7)
/-- another set of words -/
def HS.setW (S : HS) (k v : Nat) : HS := (S.ord, S.sets.set k v, S.ahead, S.prior, S.span, S.bound, S.rule, S.draw)
theorem hsOk.setW {S : HS} (h : hsOk S) {k v : Nat} (h0 : 0 < v) (hv : v < 1048576) : hsOk (S.setW k v) := by
  refine ⟨h.B, fun x hx => ?_, h.bd, h.nd, h.lt, h.n7, ?_, h.la, h.al, fun x hx => ?_, h.dr, h.rk, h.mem⟩
  · rcases List.mem_or_eq_of_mem_set hx with q | q
    · exact h.X x q
    · omega
  · show (S.sets.set k v).length = _
    rw [List.length_set]
    exact h.ls
  · rcases List.mem_or_eq_of_mem_set hx with q | q
    · exact h.sp x q
    · omega
def HS.setP (S : HS) (v : Nat) : HS := (S.ord, S.sets, S.ahead, v, S.span, S.bound, S.rule, S.draw)
theorem hsOk.setP {S : HS} (h : hsOk S) {v : Nat} (hv : v < 1048576) : hsOk (S.setP v) := ⟨⟨h.B.1, h.B.2.1, h.B.2.2.1, hv⟩, h.X, h.bd, h.nd, h.lt, h.n7, h.ls, h.la, h.al, h.sp, h.dr, h.rk, h.mem⟩
def HS.setD (S : HS) (v : Nat) : HS := (S.ord, S.sets, S.ahead, S.prior, S.span, S.bound, S.rule, v)
theorem hsOk.setD {S : HS} (h : hsOk S) {v : Nat} (hv : v < 2147483648) : hsOk (S.setD v) := ⟨h.B, h.X, h.bd, h.nd, h.lt, h.n7, h.ls, h.la, h.al, h.sp, hv, h.rk, h.mem⟩
/-- a figure told: span, bound, rule -/
def HS.setT (S : HS) (w v : Nat) : HS := (S.ord, S.sets, S.ahead, S.prior, if w = 0 then v else S.span, if w = 1 then v else S.bound, if w = 2 then v else S.rule, S.draw)
def mayT (w v : Nat) : Prop := (w = 0 ∧ 1 ≤ v ∧ v ≤ 4) ∨ (w = 1 ∧ v ≤ 20) ∨ (w = 2 ∧ v ≤ 2)
theorem hsOk.setT {S : HS} (h : hsOk S) {w v : Nat} (hw : mayT w v) : hsOk (S.setT w v) := by
  have h1 := h.B
  obtain ⟨b1, b2, b3, b4⟩ := h1
  have b5 := h.bd
  refine ⟨⟨?_, ?_, ?_, b4⟩, h.X, ?_, h.nd, h.lt, h.n7, h.ls, h.la, h.al, h.sp, h.dr, h.rk, h.mem⟩
  · show 1 ≤ (if w = 0 then v else S.span)
    rcases hw with q | q | q <;> split <;> omega
  · show (if w = 0 then v else S.span) ≤ 4
    rcases hw with q | q | q <;> split <;> omega
  · show (if w = 2 then v else S.rule) ≤ 2
    rcases hw with q | q | q <;> split <;> omega
  · show (if w = 1 then v else S.bound) ≤ 20
    rcases hw with q | q | q <;> split <;> omega
/-- another order -/
def HS.setO (S : HS) (l : List Nat) : HS := (l, S.sets, S.ahead, S.prior, S.span, S.bound, S.rule, S.draw)
theorem hsOk.setO {S : HS} (h : hsOk S) {l : List Nat} (hl : l.length = S.ord.length) (hn : l.Nodup) (hm : ∀ x ∈ l, x < S.ord.length) (hm2 : ∀ k, k < S.ord.length → k ∈ l) : hsOk (S.setO l) := by
  have e : (S.setO l).ord.length = S.ord.length := hl
  refine ⟨h.B, h.X, h.bd, hn, fun x hx => by rw [e]; exact hm x hx, by rw [e]; exact h.n7, by rw [e]; exact h.ls, by rw [e]; exact h.la, fun x hx => by rw [e]; exact h.al x hx, h.sp, h.dr, ?_, fun k hk => hm2 k (by rw [e] at hk; exact hk)⟩
  obtain ⟨r, hr⟩ := h.rk
  exact ⟨r, fun a b ha hb q => hr a b (by rw [e] at ha; exact ha) (by rw [e] at hb; exact hb) q⟩
/-- one put ahead of another, or no more -/
def HS.flip (S : HS) (a b : Nat) : HS := (S.ord, S.sets, S.ahead.set a (S.ahead.getD a 0 ^^^ 2 ^ b), S.prior, S.span, S.bound, S.rule, S.draw)
theorem hsOk.flip {S : HS} (h : hsOk S) {a b : Nat} (ha : a < S.ord.length) (hb : b < S.ord.length) (hq : (S.ahead.getD a 0).testBit b = true ∨ S.mayBe a b = true) : hsOk (S.flip a b) := by
  have haA : a < S.ahead.length := by rw [h.la]; exact ha
  refine ⟨h.B, h.X, h.bd, h.nd, h.lt, h.n7, h.ls, ?_, fun x hx => ?_, h.sp, h.dr, ?_, h.mem⟩
  · show (S.ahead.set a _).length = _
    rw [List.length_set]
    exact h.la
  · rcases List.mem_or_eq_of_mem_set hx with q | q
    · exact h.al x q
    · rw [q]
      exact Nat.xor_lt_two_pow (getD_lt (Nat.pow_pos (by decide)) h.al a) (Nat.pow_lt_pow_right (by decide) hb)
  · obtain ⟨r, hr⟩ := h.rk
    by_cases hab : (S.ahead.getD a 0).testBit b = true
    · refine ⟨r, fun x y hx hy q => ?_⟩
      have q : ((S.ahead.set a (S.ahead.getD a 0 ^^^ 2 ^ b)).getD x 0).testBit y = true := q
      rw [setl_getD haA] at q
      by_cases e : x = a
      · subst e
        rw [if_pos rfl, Nat.testBit_xor, Nat.testBit_two_pow] at q
        by_cases e2 : b = y
        · subst e2; rw [hab] at q; simp at q
        · refine hr x y hx hy ?_
          simpa [e2] using q
      · rw [if_neg e] at q
        exact hr x y hx hy q
    · have hm : S.mayBe a b = true := hq.resolve_left hab
      unfold HS.mayBe at hm
      simp only [Bool.and_eq_true, bne_iff_ne, ne_eq, Bool.not_eq_true'] at hm
      obtain ⟨hne, hnb⟩ := hm
      -- those that come behind b, and b
      have hlt := getD_lt (by decide) h.a128 b
      have cl : ∀ k, k < S.ord.length → (S.behind b).testBit k = true → subB (S.ahead.getD k 0) (S.behind b) := fun k hk q => behind_closed h.a128 (by rw [h.la]; exact h.n7) hlt (by rw [h.la]; exact hk) q
      have sb : subB (S.ahead.getD b 0) (S.behind b) := behind_sub 7 _
      refine ⟨fun x => if x = b ∨ (S.behind b).testBit x = true then r x + (r a + 1) else r x, fun x y hx hy q => ?_⟩
      have q : ((S.ahead.set a (S.ahead.getD a 0 ^^^ 2 ^ b)).getD x 0).testBit y = true := q
      have go : (S.ahead.getD x 0).testBit y = true → (if x = b ∨ (S.behind b).testBit x = true then r x + (r a + 1) else r x) < (if y = b ∨ (S.behind b).testBit y = true then r y + (r a + 1) else r y) := by
        intro e
        have lt := hr x y hx hy e
        by_cases c : x = b ∨ (S.behind b).testBit x = true
        · have cy : y = b ∨ (S.behind b).testBit y = true := by
            right
            rcases c with c | c
            · subst c; exact sb y e
            · exact cl x hx c y e
          rw [if_pos c, if_pos cy]
          omega
        · rw [if_neg c]
          split <;> omega
      rw [setl_getD haA] at q
      by_cases e : x = a
      · subst e
        rw [if_pos rfl, Nat.testBit_xor, Nat.testBit_two_pow] at q
        by_cases e2 : b = y
        · subst e2
          show (if x = b ∨ (S.behind b).testBit x = true then r x + (r x + 1) else r x) < (if b = b ∨ (S.behind b).testBit b = true then r b + (r x + 1) else r b)
          rw [if_neg (by rintro (z | z); exact hne z; rw [hnb] at z; cases z), if_pos (Or.inl rfl)]
          omega
        · exact go (by simpa [e2] using q)
      · rw [if_neg e] at q
        exact go q
