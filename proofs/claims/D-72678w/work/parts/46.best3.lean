/-! the best order is an order of all books (plain) -/
set_option maxRecDepth 100000
theorem and_or0 (a s x : Nat) : (a &&& (s ||| 2 ^ x) = 0) ↔ (a &&& s = 0 ∧ a.testBit x = false) := by
  rw [Nat.and_or_distrib_left]
  constructor
  · intro h
    have h1 : a &&& s = 0 := Nat.eq_of_testBit_eq (fun i => by
      have := congrArg (fun y => y.testBit i) h
      simp only [Nat.testBit_or, Nat.zero_testBit, Bool.or_eq_false_iff] at this
      rw [Nat.zero_testBit]; exact this.1)
    refine ⟨h1, ?_⟩
    have := congrArg (fun y => y.testBit x) h
    simp only [Nat.testBit_or, Nat.zero_testBit, Bool.or_eq_false_iff, Nat.testBit_and, Nat.testBit_two_pow_self, Bool.and_true] at this
    exact this.2
  · rintro ⟨h1, h2⟩
    rw [h1, Nat.zero_or]
    apply Nat.eq_of_testBit_eq
    intro i
    rw [Nat.testBit_and, Nat.testBit_two_pow, Nat.zero_testBit]
    by_cases e : x = i
    · subst e; rw [h2]; rfl
    · simp [e]
theorem hd_iff (a : Nat → Nat) : ∀ (l : List Nat) (s : Nat) (b : Bool), (l.foldl (hdStep a) (s, b)).2 = true ↔ (b = true ∧ (∀ y ∈ l, a y &&& s = 0) ∧ l.Pairwise (fun x y => (a y).testBit x = false))
  | [], s, b => by simp
  | x :: t, s, b => by
    have ih := hd_iff a t (s ||| 2 ^ x) (b && (a x &&& s == 0))
    rw [List.foldl_cons, show hdStep a (s, b) x = (s ||| 2 ^ x, b && (a x &&& s == 0)) from rfl, ih, List.pairwise_cons]
    constructor
    · rintro ⟨h1, h2, h3⟩
      simp only [Bool.and_eq_true, beq_iff_eq] at h1
      refine ⟨h1.1, fun y hy => ?_, fun y hy => ((and_or0 _ _ _).mp (h2 y hy)).2, h3⟩
      rcases List.mem_cons.mp hy with e | e
      · subst e; exact h1.2
      · exact ((and_or0 _ _ _).mp (h2 y e)).1
    · rintro ⟨h1, h2, h3, h4⟩
      refine ⟨by simp [h1, h2 x List.mem_cons_self], fun y hy => (and_or0 _ _ _).mpr ⟨h2 y (List.mem_cons_of_mem _ hy), h3 y hy⟩, h4⟩
theorem holds_iff (S : HS) (l : List Nat) : S.holds l = true ↔ l.Pairwise (fun x y => (S.ahead.getD y 0).testBit x = false) := by
  unfold HS.holds hdL hdF
  rw [hd_iff]
  simp
theorem holds_some {S : HS} (h : hsOk S) : ∃ l, List.Perm l S.ord ∧ S.holds l = true := by
  obtain ⟨r, hr⟩ := h.rk
  refine ⟨S.ord.mergeSort (fun a b => decide (r a ≤ r b)), List.mergeSort_perm _ _, ?_⟩
  rw [holds_iff]
  have ps := List.pairwise_mergeSort (le := fun a b => decide (r a ≤ r b)) (fun a b c h1 h2 => by simp at h1 h2 ⊢; omega) (fun a b => by simp; omega) S.ord
  refine ps.imp_of_mem (fun {x y} hx hy hxy => ?_)
  have hx := h.lt x ((List.mergeSort_perm _ _).mem_iff.mp hx)
  have hy := h.lt y ((List.mergeSort_perm _ _).mem_iff.mp hy)
  cases q : (S.ahead.getD y 0).testBit x with
  | false => rfl
  | true =>
    have := hr y x hy hx q
    simp at hxy
    omega
theorem best_run (S : HS) : ∀ (L : List (List Nat)) (B : Nat × Nat × List Nat), (∀ l ∈ L, List.Perm l S.ord) → (List.Perm B.2.2 S.ord ∨ B.1 = 21) → (List.Perm (runA (bestF S) L B).1.2.2 S.ord ∨ ((runA (bestF S) L B).1.1 = 21 ∧ ∀ l ∈ L, S.holds l = false))
  | [], B, _, h => by
    rcases h with h | h
    · exact Or.inl h
    · exact Or.inr ⟨h, fun l hl => by cases hl⟩
  | l :: t, B, hL, h => by
    have e : runA (bestF S) (l :: t) B = runA (bestF S) t (bestStep S l B) := by
      rw [runA]
      exact if_pos rfl
    rw [e]
    have hl := hL l List.mem_cons_self
    have ht := fun g hg => hL g (List.mem_cons_of_mem _ hg)
    by_cases q : S.holds l = true
    · have hs : List.Perm (bestStep S l B).2.2 S.ord := by
        unfold bestStep
        split
        · exact hl
        · next z =>
          rcases h with h | h
          · exact h
          · exfalso
            apply z
            have := S.peak_le l
            simp [q]
            left; omega
      rcases best_run S t (bestStep S l B) ht (Or.inl hs) with r | r
      · exact Or.inl r
      · by_cases hp : List.Perm (runA (bestF S) t (bestStep S l B)).1.2.2 S.ord
        · exact Or.inl hp
        · exfalso
          -- once an order stands, one stands to the end
          have stay : ∀ (L : List (List Nat)) (B : Nat × Nat × List Nat), (∀ l ∈ L, List.Perm l S.ord) → List.Perm B.2.2 S.ord → List.Perm (runA (bestF S) L B).1.2.2 S.ord := by
            intro L
            induction L with
            | nil => intro B _ h; exact h
            | cons g t ih =>
              intro B hL h
              have e : runA (bestF S) (g :: t) B = runA (bestF S) t (bestStep S g B) := by
                rw [runA]
                exact if_pos rfl
              rw [e]
              refine ih _ (fun x hx => hL x (List.mem_cons_of_mem _ hx)) ?_
              unfold bestStep
              split
              · exact hL g List.mem_cons_self
              · exact h
          exact hp (stay t _ ht hs)
    · have q2 : S.holds l = false := by simpa using q
      have eB : bestStep S l B = B := by unfold bestStep; rw [q2]; rfl
      rw [eB]
      rcases best_run S t B ht h with r | r
      · exact Or.inl r
      · exact Or.inr ⟨r.1, fun g hg => by
          rcases List.mem_cons.mp hg with z | z
          · rw [z]; exact q2
          · exact r.2 g z⟩
theorem best_perm {S : HS} (h : hsOk S) : List.Perm S.best.2.2 S.ord := by
  rcases best_run S (allOrds S.ord.length) (21, 0, []) (fun l hl => (allOrds_perm h).mp hl) (Or.inr rfl) with r | r
  · exact r
  · obtain ⟨l, h1, h2⟩ := holds_some h
    have := r.2 l ((allOrds_perm h).mpr h1)
    rw [h2] at this
    cases this
theorem grown_perm {S : HS} (h : hsOk S) : List.Perm S.grown.2.2 S.ord := by
  have n7 := h.n7
  have src := h.src
  have gen : ∀ t left D l, cnt7 left ≤ t → left < 2 ^ S.ord.length → l.Nodup → (∀ x, x ∈ l ↔ (x < S.ord.length ∧ left.testBit x = false)) → (grRun S t left D l).2.Nodup ∧ ∀ x, x ∈ (grRun S t left D l).2 ↔ x < S.ord.length := by
    intro t
    induction t with
    | zero =>
      intro left D l hc hl hn hm
      have h7 : left < 128 := Nat.lt_of_lt_of_le hl (Nat.pow_le_pow_right (by decide) n7 : _ ≤ 2 ^ 7)
      have e := cnt7_0 left h7 (by omega)
      subst e
      exact ⟨hn, fun x => by show x ∈ l ↔ _; rw [hm, Nat.zero_testBit]; simp⟩
    | succ t ih =>
      intro left D l hc hl hn hm
      have h7 : left < 128 := Nat.lt_of_lt_of_le hl (Nat.pow_le_pow_right (by decide) n7 : _ ≤ 2 ^ 7)
      by_cases z : left = 0
      · subst z
        rw [grRun, if_pos rfl]
        exact ⟨hn, fun x => by rw [hm, Nat.zero_testBit]; simp⟩
      · obtain ⟨k, hk⟩ := grNext_some S D.1 left S.ord.length (src left z hl)
        obtain ⟨k1, k2⟩ := grNext_lt S D.1 left _ k hk
        have c := cnt7_out left h7 k (by omega) k2
        rw [grRun, if_neg z, hk]
        refine ih _ _ _ (by omega) (andn_lt hl) ?_ (fun x => ?_)
        · rw [List.nodup_append]
          refine ⟨hn, by simp, fun a ha b hb => ?_⟩
          rw [List.mem_singleton.mp hb]
          rintro rfl
          have := ((hm a).mp ha).2
          rw [k2] at this
          cases this
        · rw [List.mem_append, hm, List.mem_singleton, andn_tb, Nat.testBit_two_pow]
          by_cases e : x = k
          · subst e
            simp [k1]
          · have e2 : ¬ k = x := fun y => e y.symm
            simp [e, e2]
  obtain ⟨p1, p2, p3⟩ := p2m1 S.ord.length (by omega)
  have p3 : cnt7 (2 ^ S.ord.length - 1) ≤ 7 := by omega
  obtain ⟨g1, g2⟩ := gen 7 (2 ^ S.ord.length - 1) rd0 [] p3 p2 List.nodup_nil (fun x => by rw [full_tb' (by omega)]; simp)
  exact perm_of g1 h.nd (fun x => (g2 x).trans ⟨fun q => h.mem x q, fun q => h.lt x q⟩)
