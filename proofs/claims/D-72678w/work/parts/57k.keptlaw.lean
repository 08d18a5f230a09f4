/-! how likely a word is kept: the sum over sets of places is the sum over sets of books (plain) -/
set_option maxRecDepth 100000
def prodL (l : List Nat) : Nat := l.foldr (· * ·) 1
def sumL (l : List Nat) : Nat := l.foldr (· + ·) 0
theorem prodL_perm {l g : List Nat} (h : List.Perm l g) : prodL l = prodL g := by
  induction h with
  | nil => rfl
  | cons x _ ih => show x * prodL _ = x * prodL _; rw [ih]
  | swap x y l => show y * (x * prodL l) = x * (y * prodL l); exact Nat.mul_left_comm _ _ _
  | trans _ _ h1 h2 => exact h1.trans h2
theorem sumL_perm {l g : List Nat} (h : List.Perm l g) : sumL l = sumL g := by
  induction h with
  | nil => rfl
  | cons x _ ih => show x + sumL _ = x + sumL _; rw [ih]
  | swap x y l => show y + (x + sumL l) = x + (y + sumL l); omega
  | trans _ _ h1 h2 => exact h1.trans h2
theorem prodL_app (g : List Nat) : ∀ l : List Nat, prodL (l ++ g) = prodL l * prodL g
  | [] => (Nat.one_mul _).symm
  | x :: t => by
    show x * prodL (t ++ g) = x * prodL t * prodL g
    rw [prodL_app g t, Nat.mul_assoc]
theorem sumL_app (g : List Nat) : ∀ l : List Nat, sumL (l ++ g) = sumL l + sumL g
  | [] => (Nat.zero_add _).symm
  | x :: t => by
    show x + sumL (t ++ g) = x + sumL t + sumL g
    rw [sumL_app g t, Nat.add_assoc]
theorem prodL_one (x : Nat) : prodL [x] = x := Nat.mul_one x
theorem sumL_one (x : Nat) : sumL [x] = x := Nat.add_zero x
theorem partN_prod (b c mis : Nat) : ∀ k, partN b c mis k = b * prodL ((List.range k).map (fun j => if mis.testBit j then c else 10 - c))
  | 0 => (Nat.mul_one b).symm
  | k + 1 => by rw [partN, partN_prod b c mis k, List.range_succ, List.map_append, prodL_app, List.map_singleton, prodL_one, Nat.mul_assoc]
theorem aboveN_sum (S : HS) (w c : Nat) : ∀ m, aboveN S w c m = sumL ((List.range m).map (fun mis => partN (liveN S w mis) c mis S.ord.length))
  | 0 => rfl
  | m + 1 => by rw [aboveN, aboveN_sum S w c m, List.range_succ, List.map_append, sumL_app, List.map_singleton, sumL_one]
/-- what the reference reads: the word's places -/
def mws (S : HS) (w set : Nat) : List Nat := (List.range S.ord.length).map (fun p => if set.testBit p then S.sets.getD (S.ord.getD p 0) 0 &&& 2 ^ w else 0)
def mLive (S : HS) (w set : Nat) : Bool := decide (0 < ((rdOf S.span S.rule S.prior (mws S w set)).1 w).1)
def mPart (c set : Nat) : Nat → Nat
  | 0 => 1
  | p + 1 => mPart c set p * (if set.testBit p then 10 - c else c)
def mAbove (S : HS) (w c : Nat) : Nat → Nat
  | 0 => 0
  | k + 1 => mAbove S w c k + (if mLive S w k then mPart c k S.ord.length else 0)
theorem mPart_prod (c set : Nat) : ∀ k, mPart c set k = prodL ((List.range k).map (fun p => if set.testBit p then 10 - c else c))
  | 0 => rfl
  | k + 1 => by rw [mPart, mPart_prod c set k, List.range_succ, List.map_append, prodL_app, List.map_singleton, prodL_one]
theorem mAbove_sum (S : HS) (w c : Nat) : ∀ k, mAbove S w c k = sumL ((List.range k).map (fun set => if mLive S w set then mPart c set S.ord.length else 0))
  | 0 => rfl
  | k + 1 => by rw [mAbove, mAbove_sum S w c k, List.range_succ, List.map_append, sumL_app, List.map_singleton, sumL_one]
theorem mPart_le {c set : Nat} (hc : c ≤ 10) : ∀ k, mPart c set k ≤ 10 ^ k
  | 0 => Nat.le_refl _
  | k + 1 => by
    rw [mPart, Nat.pow_succ]
    refine Nat.mul_le_mul (mPart_le hc k) ?_
    split <;> omega
theorem mAbove_le (S : HS) {w c : Nat} (hc : c ≤ 10) (hn : S.ord.length ≤ 7) : ∀ m, mAbove S w c m ≤ m * 10000000
  | 0 => Nat.le_refl _
  | m + 1 => by
    rw [mAbove]
    have h1 := mAbove_le S (w := w) hc hn m
    have h2 := mPart_le (set := m) hc S.ord.length
    have h3 : 10 ^ S.ord.length ≤ 10 ^ 7 := Nat.pow_le_pow_right (by decide) hn
    have h4 : (if mLive S w m = true then mPart c m S.ord.length else 0) ≤ mPart c m S.ord.length := by
      by_cases q : mLive S w m = true
      · rw [if_pos q]; exact Nat.le_refl _
      · rw [if_neg q]; exact Nat.zero_le _
    generalize (if mLive S w m = true then mPart c m S.ord.length else 0) = z at h4
    omega
/-- a word's reading hangs on its own bit alone -/
theorem w2_one {R R' : RW} {span rule prior x x' p w : Nat} (h1 : R w = R' w) (h2 : x.testBit w = x'.testBit w) : w2 R span rule prior x p w = w2 R' span rule prior x' p w := by
  have e : w1 R prior x p w = w1 R' prior x' p w := by unfold w1 metW; rw [h1, h2]
  unfold w2 goneW
  rw [e]
theorem rd_one (span rule prior w : Nat) : ∀ (l g : List Nat) (D D' : RD), l.length = g.length → (∀ p, p < l.length → (l.getD p 0).testBit w = (g.getD p 0).testBit w) → D.1 w = D'.1 w → D.2.length = D'.2.length → (l.foldl (rdStep span rule prior) D).1 w = (g.foldl (rdStep span rule prior) D').1 w
  | [], [], D, D', _, _, h1, _ => h1
  | [], _ :: _, _, _, h, _, _, _ => by simp at h
  | _ :: _, [], _, _, h, _, _, _ => by simp at h
  | x :: t, y :: s, D, D', h, hb, h1, h2 => by
    refine rd_one span rule prior w t s _ _ (by simpa using h) (fun p hp => ?_) ?_ ?_
    · have := hb (p + 1) (by simpa using hp)
      exact this
    · show w2 D.1 span rule prior x D.2.length w = w2 D'.1 span rule prior y D'.2.length w
      rw [h2]
      exact w2_one h1 (hb 0 (by simp))
    · rw [rdStep_len, rdStep_len, h2]
/-- places to books, books to places -/
def phiS (S : HS) (set : Nat) : Nat := bitsOf (fun b => !set.testBit (S.ord.idxOf b)) S.ord.length
def psiS (S : HS) (mis : Nat) : Nat := bitsOf (fun p => !mis.testBit (S.ord.getD p 0)) S.ord.length
theorem phi_at {S : HS} (h : hsOk S) (set : Nat) {p : Nat} (hp : p < S.ord.length) : (phiS S set).testBit (S.ord.getD p 0) = !set.testBit p := by
  unfold phiS
  rw [bitsOf_tb, idx_at h.nd hp]
  simp only [decide_eq_true (h.lt _ (getD_mem hp)), Bool.true_and]
theorem psi_phi {S : HS} (h : hsOk S) {set : Nat} (hs : set < 2 ^ S.ord.length) : psiS S (phiS S set) = set := by
  refine (bits_ext hs (fun i hi => ?_)).symm
  rw [phi_at h set hi, Bool.not_not]
theorem phi_psi {S : HS} (h : hsOk S) {mis : Nat} (hm : mis < 2 ^ S.ord.length) : phiS S (psiS S mis) = mis := by
  refine (bits_ext hm (fun b hb => ?_)).symm
  obtain ⟨i1, i2⟩ := idx_lt (h.mem b hb)
  unfold psiS
  rw [bitsOf_tb, i2]
  simp [i1]
theorem phi_perm {S : HS} (h : hsOk S) : List.Perm ((List.range (2 ^ S.ord.length)).map (phiS S)) (List.range (2 ^ S.ord.length)) := by
  refine perm_of ?_ List.nodup_range (fun x => ?_)
  · unfold List.Nodup
    rw [List.pairwise_map]
    refine List.Pairwise.imp_of_mem (R := fun a b => a ≠ b) (fun {a b} ha hb hne e => hne ?_) List.nodup_range
    rw [← psi_phi h (List.mem_range.mp ha), ← psi_phi h (List.mem_range.mp hb), e]
  · rw [List.mem_map, List.mem_range]
    constructor
    · rintro ⟨a, _, rfl⟩
      exact bitsOf_lt _ _
    · intro hx
      exact ⟨psiS S x, List.mem_range.mpr (bitsOf_lt _ _), phi_psi h hx⟩
theorem ord_perm {S : HS} (h : hsOk S) : List.Perm S.ord (List.range S.ord.length) := perm_of h.nd List.nodup_range (fun x => by rw [List.mem_range]; exact ⟨fun q => h.lt x q, fun q => h.mem x q⟩)
theorem ord_map (l : List Nat) (f : Nat → Nat) : l.map f = (List.range l.length).map (fun p => f (l.getD p 0)) := by
  refine List.ext_getElem (by simp) (fun i h1 h2 => ?_)
  have hi : i < l.length := by simpa using h1
  simp [List.getD_eq_getElem?_getD, hi]
theorem mLive_phi {S : HS} (h : hsOk S) (w set : Nat) : liveN S w (phiS S set) = if mLive S w set then 1 else 0 := by
  have e : ((S.rd S.ord (phiS S set)).1 w) = (rdOf S.span S.rule S.prior (mws S w set)).1 w := by
    unfold HS.rd rdOf
    refine rd_one _ _ _ w _ _ _ _ (by rw [wsOf_len]; unfold mws; simp) (fun p hp => ?_) rfl rfl
    rw [wsOf_len] at hp
    unfold mws
    rw [wsOf_at _ _ _ _ hp, rmap_getD hp, phi_at h set hp]
    cases set.testBit p
    · rfl
    · simp
  unfold liveN mLive
  rw [e]
  simp only [decide_eq_true_eq]
theorem mAbove_eq {S : HS} (h : hsOk S) (w c : Nat) : mAbove S w c (2 ^ S.ord.length) = aboveN S w c (2 ^ S.ord.length) := by
  rw [aboveN_sum, mAbove_sum, ← sumL_perm ((phi_perm h).map (fun mis => partN (liveN S w mis) c mis S.ord.length)), List.map_map]
  congr 1
  refine List.map_congr_left (fun set _ => ?_)
  show _ = partN (liveN S w (phiS S set)) c (phiS S set) S.ord.length
  have e : prodL ((List.range S.ord.length).map (fun j => if (phiS S set).testBit j then c else 10 - c)) = mPart c set S.ord.length := by
    rw [mPart_prod, ← prodL_perm ((ord_perm h).map (fun j => if (phiS S set).testBit j then c else 10 - c)), ord_map]
    congr 1
    refine List.map_congr_left (fun p hp => ?_)
    rw [phi_at h set (List.mem_range.mp hp)]
    cases set.testBit p <;> rfl
  rw [partN_prod, mLive_phi h, e]
  cases mLive S w set
  · exact (Nat.zero_mul _).symm
  · exact (Nat.one_mul _).symm
