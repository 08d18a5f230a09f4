/-! the orders are all of them (plain) -/
set_option maxRecDepth 100000
theorem tb_lt {left n k : Nat} (h : left < 2 ^ n) (hk : left.testBit k = true) : k < n := by
  apply Classical.byContradiction
  intro q
  rw [Nat.testBit_lt_two_pow (Nat.lt_of_lt_of_le h (Nat.pow_le_pow_right (by decide) (by omega)))] at hk
  cases hk
theorem nil_of {l : List Nat} (h : ∀ x, x ∈ l ↔ (0 : Nat).testBit x = true) : l = [] := by
  cases l with
  | nil => rfl
  | cons a t =>
    have := (h a).mp List.mem_cons_self
    rw [Nat.zero_testBit] at this
    cases this
theorem ords_iff : ∀ t n left (l : List Nat), n ≤ 7 → left < 2 ^ n → cnt7 left ≤ t → (l ∈ ords t n left ↔ l.Nodup ∧ ∀ x, x ∈ l ↔ left.testBit x = true) := by
  intro t
  have base : ∀ t n (l : List Nat), l ∈ ords t n 0 ↔ l.Nodup ∧ ∀ x, x ∈ l ↔ (0 : Nat).testBit x = true := by
    intro t n l
    rw [ords_0, List.mem_singleton]
    constructor
    · rintro rfl
      exact ⟨List.nodup_nil, fun x => by rw [Nat.zero_testBit]; simp⟩
    · intro h
      exact nil_of h.2
  induction t with
  | zero =>
    intro n left l hn hl hc
    have h7 : left < 128 := Nat.lt_of_lt_of_le hl (Nat.pow_le_pow_right (by decide) hn : _ ≤ 2 ^ 7)
    have e := cnt7_0 left h7 (by omega)
    subst e
    exact base 0 n l
  | succ t ih =>
    intro n left l hn hl hc
    have h7 : left < 128 := Nat.lt_of_lt_of_le hl (Nat.pow_le_pow_right (by decide) hn : _ ≤ 2 ^ 7)
    by_cases z : left = 0
    · subst z
      exact base (t + 1) n l
    · rw [ords, if_neg z, List.mem_flatMap]
      have tb : ∀ k i, (andn left (2 ^ k)).testBit i = (left.testBit i && !decide (k = i)) := fun k i => by rw [andn_tb, Nat.testBit_two_pow]
      constructor
      · rintro ⟨k, hk, hm⟩
        have hk := List.mem_range.mp hk
        by_cases q : left.testBit k = true
        · rw [if_pos q] at hm
          obtain ⟨l', hl', rfl⟩ := List.mem_map.mp hm
          have c := cnt7_out left h7 k (by omega) q
          obtain ⟨n1, n2⟩ := (ih n (andn left (2 ^ k)) l' hn (andn_lt hl) (by omega)).mp hl'
          have kn : k ∉ l' := fun y => by
            have := (n2 k).mp y
            rw [tb] at this
            simp at this
          refine ⟨List.nodup_cons.mpr ⟨kn, n1⟩, fun x => ?_⟩
          rw [List.mem_cons, n2, tb]
          constructor
          · rintro (rfl | y)
            · exact q
            · simp only [Bool.and_eq_true] at y; exact y.1
          · intro y
            by_cases e : x = k
            · exact Or.inl e
            · right
              simp [y]
              omega
        · rw [if_neg q] at hm
          cases hm
      · rintro ⟨n1, n2⟩
        cases l with
        | nil =>
          obtain ⟨i, hi⟩ := Nat.exists_testBit_of_ne_zero z
          have := (n2 i).mpr hi
          cases this
        | cons k l' =>
          have q := (n2 k).mp List.mem_cons_self
          have hk := tb_lt hl q
          refine ⟨k, List.mem_range.mpr hk, ?_⟩
          rw [if_pos q]
          refine List.mem_map.mpr ⟨l', ?_, rfl⟩
          have c := cnt7_out left h7 k (by omega) q
          obtain ⟨m1, m2⟩ := List.nodup_cons.mp n1
          refine (ih n (andn left (2 ^ k)) l' hn (andn_lt hl) (by omega)).mpr ⟨m2, fun x => ?_⟩
          rw [tb]
          have hx := n2 x
          rw [List.mem_cons] at hx
          constructor
          · intro y
            have h1 := hx.mp (Or.inr y)
            have h2 : k ≠ x := fun e => m1 (by rw [e]; exact y)
            simp [h1, h2]
          · intro y
            simp only [Bool.and_eq_true, Bool.not_eq_true', decide_eq_false_iff_not] at y
            rcases hx.mpr y.1 with e | e
            · exact absurd e.symm y.2
            · exact e
theorem full_tb : ∀ n, n < 8 → ∀ i, i < 8 → (2 ^ n - 1).testBit i = decide (i < n) := by decide +kernel
theorem full_tb' {n : Nat} (hn : n < 8) (i : Nat) : (2 ^ n - 1).testBit i = decide (i < n) := by
  by_cases h : i < 8
  · exact full_tb n hn i h
  · rw [Nat.testBit_lt_two_pow (Nat.lt_of_lt_of_le (p2m1 n hn).2.1 (Nat.pow_le_pow_right (by decide) (by omega)))]
    simp; omega
/-- the orders asked are just the orders of all books -/
theorem allOrds_iff {n : Nat} (hn : n ≤ 7) (l : List Nat) : l ∈ allOrds n ↔ l.Nodup ∧ ∀ x, x ∈ l ↔ x < n := by
  obtain ⟨p1, p2, p3⟩ := p2m1 n (by omega)
  have p3 : cnt7 (2 ^ n - 1) ≤ 7 := by omega
  rw [allOrds, ords_iff 7 n _ l hn p2 p3]
  constructor
  · rintro ⟨h1, h2⟩
    exact ⟨h1, fun x => by rw [h2, full_tb' (by omega)]; simp⟩
  · rintro ⟨h1, h2⟩
    exact ⟨h1, fun x => by rw [h2, full_tb' (by omega)]; simp⟩
theorem perm_of {l g : List Nat} (h1 : l.Nodup) (h2 : g.Nodup) (h : ∀ x, x ∈ l ↔ x ∈ g) : List.Perm l g := (List.perm_ext_iff_of_nodup h1 h2).mpr h
theorem allOrds_perm {S : HS} (h : hsOk S) {l : List Nat} : l ∈ allOrds S.ord.length ↔ List.Perm l S.ord := by
  rw [allOrds_iff h.n7]
  constructor
  · rintro ⟨h1, h2⟩
    exact perm_of h1 h.nd (fun x => by rw [h2]; exact ⟨fun q => h.mem x q, fun q => h.lt x q⟩)
  · intro q
    exact ⟨q.nodup_iff.mpr h.nd, fun x => by rw [q.mem_iff]; exact ⟨fun q => h.lt x q, fun q => h.mem x q⟩⟩
