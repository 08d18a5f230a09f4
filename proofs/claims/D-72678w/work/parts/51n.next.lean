/-! the next order, and all of them (plain) -/
set_option maxRecDepth 100000
/-- the last place from which one goes up -/
def nxAt (l : List Nat) : Nat → Option Nat
  | 0 => none
  | j + 1 => if l.getD j 0 ≤ l.getD (j + 1) 0 then some j else nxAt l j
/-- the last one that isn't less -/
def nxOt (l : List Nat) (a : Nat) : Nat → Nat
  | 0 => 0
  | j + 1 => if l.getD (j + 1) 0 < l.getD a 0 then nxOt l a j else j + 1
def nxSw (l : List Nat) (a b q : Nat) : Nat := if q = a then l.getD b 0 else if q = b then l.getD a 0 else l.getD q 0
/-- the next order as a number -/
def nextL (l : List Nat) : Option (List Nat) := match nxAt l (l.length - 1) with
  | none => none
  | some a => some ((List.range l.length).map (fun q => nxSw l a (nxOt l a (l.length - 1)) (if q ≤ a then q else l.length + a - q)))
theorem nextL_none {l : List Nat} (h : nxAt l (l.length - 1) = none) : nextL l = none := by unfold nextL; rw [h]
theorem nextL_some {l : List Nat} {a : Nat} (h : nxAt l (l.length - 1) = some a) : nextL l = some ((List.range l.length).map (fun q => nxSw l a (nxOt l a (l.length - 1)) (if q ≤ a then q else l.length + a - q))) := by unfold nextL; rw [h]
theorem rmap_getD {f : Nat → Nat} {n i : Nat} (h : i < n) : ((List.range n).map f).getD i 0 = f i := by
  rw [List.getD_eq_getElem?_getD, List.getElem?_map, List.getElem?_range h]
  rfl
theorem nxAt_c (k : Nat) (t : List Nat) : ∀ m a, nxAt t m = some a → nxAt (k :: t) (m + 1) = some (a + 1)
  | 0, a, h => by cases h
  | m + 1, a, h => by
    rw [nxAt] at h
    rw [nxAt, List.getD_cons_succ, List.getD_cons_succ]
    by_cases c : t.getD m 0 ≤ t.getD (m + 1) 0
    · rw [if_pos c] at h ⊢
      cases h
      rfl
    · rw [if_neg c] at h ⊢
      exact nxAt_c k t m a h
theorem nxAt_le (t : List Nat) : ∀ m a, nxAt t m = some a → a + 1 ≤ m ∧ t.getD a 0 ≤ t.getD (a + 1) 0
  | 0, a, h => by cases h
  | m + 1, a, h => by
    rw [nxAt] at h
    by_cases c : t.getD m 0 ≤ t.getD (m + 1) 0
    · rw [if_pos c] at h
      cases h
      exact ⟨Nat.le_refl _, c⟩
    · rw [if_neg c] at h
      have := nxAt_le t m a h
      exact ⟨by omega, this.2⟩
theorem nxOt_c (k : Nat) (t : List Nat) (a : Nat) (hle : t.getD a 0 ≤ t.getD (a + 1) 0) : ∀ m, a + 1 ≤ m → nxOt (k :: t) (a + 1) (m + 1) = nxOt t a m + 1
  | 0, h => by omega
  | m + 1, h => by
    show (if t.getD (m + 1) 0 < t.getD a 0 then nxOt (k :: t) (a + 1) (m + 1) else m + 1 + 1) = (if t.getD (m + 1) 0 < t.getD a 0 then nxOt t a m else m + 1) + 1
    by_cases c : t.getD (m + 1) 0 < t.getD a 0
    · rw [if_pos c, if_pos c]
      refine nxOt_c k t a hle m ?_
      have : m ≠ a := fun e => by subst e; omega
      omega
    · rw [if_neg c, if_neg c]
theorem nextL_c {k : Nat} {t t' : List Nat} (h : nextL t = some t') : nextL (k :: t) = some (k :: t') := by
  cases ha : nxAt t (t.length - 1) with
  | none => rw [nextL_none ha] at h; cases h
  | some a =>
    obtain ⟨h1, h2⟩ := nxAt_le t _ a ha
    rw [nextL_some ha] at h
    have h := Option.some.inj h
    have e1 : (k :: t).length - 1 = (t.length - 1) + 1 := by rw [List.length_cons]; omega
    have hb : nxAt (k :: t) ((k :: t).length - 1) = some (a + 1) := by rw [e1]; exact nxAt_c k t _ a ha
    rw [nextL_some hb, e1, nxOt_c k t a h2 _ h1, List.length_cons, List.range_succ_eq_map, List.map_cons, List.map_map, ← h]
    congr 1
    have e0 : nxSw (k :: t) (a + 1) (nxOt t a (t.length - 1) + 1) (if 0 ≤ a + 1 then 0 else t.length + 1 + (a + 1) - 0) = k := by
      rw [if_pos (Nat.zero_le _)]
      unfold nxSw
      rw [if_neg (by omega), if_neg (by omega)]
      rfl
    rw [e0]
    congr 1
    refine List.map_congr_left (fun q hq => ?_)
    have hq := List.mem_range.mp hq
    show nxSw (k :: t) (a + 1) (nxOt t a (t.length - 1) + 1) (if q + 1 ≤ a + 1 then q + 1 else t.length + 1 + (a + 1) - (q + 1)) = _
    have e2 : (if q + 1 ≤ a + 1 then q + 1 else t.length + 1 + (a + 1) - (q + 1)) = (if q ≤ a then q else t.length + a - q) + 1 := by
      by_cases c : q ≤ a
      · rw [if_pos c, if_pos (by omega)]
      · rw [if_neg c, if_neg (by omega)]; omega
    rw [e2]
    generalize (if q ≤ a then q else t.length + a - q) = r
    generalize nxOt t a (t.length - 1) = b
    unfold nxSw
    rw [List.getD_cons_succ, List.getD_cons_succ, List.getD_cons_succ]
    by_cases c1 : r = a
    · rw [if_pos c1, if_pos (by omega)]
    · rw [if_neg c1, if_neg (by omega)]
      by_cases c2 : r = b
      · rw [if_pos c2, if_pos (by omega)]
      · rw [if_neg c2, if_neg (by omega)]
/-- from one to the next; e: what comes behind the last -/
def hdO (M : List (List Nat)) (e : Option (List Nat)) : Option (List Nat) := match M with
  | [] => e
  | g :: _ => some g
def chP : List (List Nat) → Option (List Nat) → Prop
  | [], _ => True
  | l :: t, e => nextL l = hdO t e ∧ chP t e
theorem chP_app {M : List (List Nat)} {e : Option (List Nat)} (hM : chP M e) : ∀ {L : List (List Nat)}, chP L (hdO M e) → chP (L ++ M) e
  | [], _ => hM
  | l :: t, h => by
    refine ⟨?_, chP_app hM h.2⟩
    rw [h.1]
    cases t <;> rfl
theorem chP_map {k : Nat} {d : List Nat} : ∀ {L : List (List Nat)}, chP L none → L.getLast? = some d → chP (L.map (k :: ·)) (nextL (k :: d))
  | [], _, _ => trivial
  | [l], h, hl => by
    have : l = d := by simpa using hl
    subst this
    exact ⟨rfl, trivial⟩
  | l :: g :: t, h, hl => by
    refine ⟨nextL_c h.1, chP_map (L := g :: t) h.2 ?_⟩
    rw [← hl]
    rfl
def ascL (left : Nat) : List Nat := (List.range 7).filter (fun k => left.testBit k)
def descL (left : Nat) : List Nat := (ascL left).reverse
def firL (left i : Nat) : Option (List Nat) := match (List.range 7).find? (fun k => decide (i ≤ k) && left.testBit k) with
  | some k => some (k :: ascL (andn left (2 ^ k)))
  | none => none
theorem fd1 : ∀ left, left < 128 → ∀ i, i < 7 → left.testBit i = true → nextL (i :: descL (andn left (2 ^ i))) = firL left (i + 1) := by decide +kernel
theorem fd2 : ∀ left, left < 128 → ∀ i, i < 7 → left.testBit i = true → firL left (i + 1) = none → i :: descL (andn left (2 ^ i)) = descL left := by decide +kernel
theorem fd3 : ∀ left, left < 128 → left ≠ 0 → firL left 0 = some (ascL left) := by decide +kernel
theorem fd4 : ∀ left, left < 128 → ∀ i, i < 7 → firL left i = if left.testBit i then some (i :: ascL (andn left (2 ^ i))) else firL left (i + 1) := by decide +kernel
theorem fd6 : ∀ n, n < 8 → ∀ left, left < 2 ^ n → firL left n = none := by decide +kernel
theorem ords_ch : ∀ t n left, n ≤ 7 → left < 2 ^ n → cnt7 left ≤ t → chP (ords t n left) none ∧ (ords t n left).head? = some (ascL left) ∧ (ords t n left).getLast? = some (descL left) := by
  intro t
  induction t with
  | zero =>
    intro n left hn hl hc
    have hl7 : left < 128 := Nat.lt_of_lt_of_le hl (Nat.pow_le_pow_right (by decide) hn : _ ≤ 2 ^ 7)
    have z := cnt7_0 left hl7 (by omega)
    subst z
    rw [ords_0]
    exact ⟨⟨rfl, trivial⟩, by decide +kernel, by decide +kernel⟩
  | succ t ih =>
    intro n left hn hl hc
    have hl7 : left < 128 := Nat.lt_of_lt_of_le hl (Nat.pow_le_pow_right (by decide) hn : _ ≤ 2 ^ 7)
    by_cases z : left = 0
    · subst z
      rw [ords_0]
      exact ⟨⟨rfl, trivial⟩, by decide +kernel, by decide +kernel⟩
    · have key : ∀ c i, i + c = n → chP ((List.range' i c).flatMap (fun k => if left.testBit k then (ords t n (andn left (2 ^ k))).map (k :: ·) else [])) none ∧ ((List.range' i c).flatMap (fun k => if left.testBit k then (ords t n (andn left (2 ^ k))).map (k :: ·) else [])).head? = firL left i ∧ ((List.range' i c).flatMap (fun k => if left.testBit k then (ords t n (andn left (2 ^ k))).map (k :: ·) else [])).getLast? = (firL left i).map (fun _ => descL left) := by
        intro c
        induction c with
        | zero =>
          intro i e
          have e : i = n := by omega
          subst e
          rw [fd6 i (by omega) left hl]
          exact ⟨trivial, rfl, rfl⟩
        | succ c ihc =>
          intro i e
          obtain ⟨h1, h2, h3⟩ := ihc (i + 1) (by omega)
          rw [List.range'_succ, List.flatMap_cons]
          generalize (List.range' (i + 1) c).flatMap (fun k => if left.testBit k then (ords t n (andn left (2 ^ k))).map (k :: ·) else []) = R at h1 h2 h3
          by_cases b : left.testBit i = true
          · rw [if_pos b, fd4 left hl7 i (by omega), if_pos b]
            have c7 := cnt7_out left hl7 i (by omega) b
            obtain ⟨g1, g2, g3⟩ := ih n (andn left (2 ^ i)) hn (andn_lt hl) (by omega)
            have f1 := fd1 left hl7 i (by omega) b
            refine ⟨chP_app h1 ?_, ?_, ?_⟩
            · have := chP_map (k := i) g1 g3
              rw [f1, ← h2] at this
              have e : hdO R none = R.head? := by cases R <;> rfl
              rw [e]
              exact this
            · rw [List.head?_append, List.head?_map, g2]
              rfl
            · rw [List.getLast?_append, List.getLast?_map, g3, h3]
              cases hf : firL left (i + 1) with
              | none =>
                have := fd2 left hl7 i (by omega) b hf
                simp [this]
              | some w => simp
          · rw [if_neg b, fd4 left hl7 i (by omega), if_neg b, List.nil_append]
            exact ⟨h1, h2, h3⟩
      have e : ords (t + 1) n left = (List.range n).flatMap (fun k => if left.testBit k then (ords t n (andn left (2 ^ k))).map (k :: ·) else []) := by rw [ords, if_neg z]
      have := key n 0 (by omega)
      rw [fd3 left hl7 z] at this
      rw [e, List.range_eq_range']
      exact this
theorem chP_of : ∀ (pre : List (List Nat)) (l : List Nat) (post : List (List Nat)), chP (pre ++ l :: post) none → nextL l = post.head?
  | [], l, post, h => by
    rw [h.1]
    cases post <;> rfl
  | x :: t, l, post, h => chP_of t l post h.2
theorem ascFull : ∀ n, n < 8 → ascL (2 ^ n - 1) = List.range n := by decide +kernel
theorem all_ch {n : Nat} (hn : n ≤ 7) : chP (allOrds n) none ∧ (allOrds n).head? = some (List.range n) := by
  obtain ⟨p1, p2, p3⟩ := p2m1 n (by omega)
  have p3 : cnt7 (2 ^ n - 1) ≤ 7 := by omega
  have := ords_ch 7 n (2 ^ n - 1) hn p2 p3
  rw [ascFull n (by omega)] at this
  exact ⟨this.1, this.2.1⟩
/-- a rest of all orders -/
def isRest (n : Nat) (L : List (List Nat)) : Prop := ∃ pre, allOrds n = pre ++ L
theorem isRest.nx {n : Nat} (hn : n ≤ 7) {l : List Nat} {post : List (List Nat)} (h : isRest n (l :: post)) : nextL l = post.head? := by
  obtain ⟨pre, e⟩ := h
  exact chP_of pre l post (by rw [← e]; exact (all_ch hn).1)
theorem isRest.tl {n : Nat} {l : List Nat} {post : List (List Nat)} (h : isRest n (l :: post)) : isRest n post := by
  obtain ⟨pre, e⟩ := h
  exact ⟨pre ++ [l], by rw [e]; simp⟩
theorem isRest.all (n : Nat) : isRest n (allOrds n) := ⟨[], rfl⟩
theorem isRest.mem {n : Nat} (hn : n ≤ 7) {l : List Nat} {post : List (List Nat)} (h : isRest n (l :: post)) : l.length = n ∧ ∀ x ∈ l, x < n := by
  obtain ⟨pre, e⟩ := h
  have hm : l ∈ allOrds n := by rw [e]; simp
  obtain ⟨h1, h2⟩ := (allOrds_iff hn l).mp hm
  refine ⟨?_, fun x hx => (h2 x).mp hx⟩
  have := (perm_of h1 List.nodup_range (fun x => by rw [h2, List.mem_range])).length_eq
  rw [this, List.length_range]
theorem allOrds_cons {n : Nat} (hn : n ≤ 7) : ∃ t, allOrds n = List.range n :: t := by
  have := (all_ch hn).2
  cases h : allOrds n with
  | nil => rw [h] at this; cases this
  | cons l t =>
    rw [h] at this
    cases this
    exact ⟨t, rfl⟩
