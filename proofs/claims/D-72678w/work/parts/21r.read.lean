/-! what is read, as plain numbers -/
set_option maxRecDepth 100000
/-- a set, by its bits below n -/
def bitsOf (f : Nat → Bool) : Nat → Nat
  | 0 => 0
  | n + 1 => bitsOf f n ||| (if f n then 2 ^ n else 0)
theorem bitsOf_tb (f : Nat → Bool) : ∀ n i, (bitsOf f n).testBit i = (decide (i < n) && f i)
  | 0, i => by simp [bitsOf]
  | n + 1, i => by
    rw [bitsOf, Nat.testBit_or, bitsOf_tb f n i]
    by_cases h : i = n
    · subst h
      cases hf : f i
      · simp
      · simp [Nat.testBit_two_pow_self]
    · have h2 : (if f n = true then 2 ^ n else 0).testBit i = false := by
        split
        · rw [Nat.testBit_two_pow]; simp; omega
        · simp
      rw [h2, Bool.or_false]
      congr 1
      simp only [decide_eq_decide]
      omega
theorem bitsOf_lt (f : Nat → Bool) : ∀ n, bitsOf f n < 2 ^ n
  | 0 => by simp [bitsOf]
  | n + 1 => by
    rw [bitsOf]
    have h1 := bitsOf_lt f n
    have h2 : 2 ^ n < 2 ^ (n + 1) := Nat.pow_lt_pow_right (by decide) (by omega)
    refine Nat.or_lt_two_pow (by omega) ?_
    split
    · exact h2
    · exact Nat.lt_of_le_of_lt (Nat.zero_le _) h2
theorem bits_ext {a : Nat} {f : Nat → Bool} {n : Nat} (ha : a < 2 ^ n) (h : ∀ i, i < n → a.testBit i = f i) : a = bitsOf f n := by
  apply Nat.eq_of_testBit_eq
  intro i
  rw [bitsOf_tb]
  by_cases q : i < n
  · rw [h i q]; simp [q]
  · simp only [q, decide_false, Bool.false_and]
    exact Nat.testBit_lt_two_pow (Nat.lt_of_lt_of_le ha (Nat.pow_le_pow_right (by decide) (by omega)))
theorem bitsOf_congr {f g : Nat → Bool} : ∀ {n : Nat}, (∀ i, i < n → f i = g i) → bitsOf f n = bitsOf g n
  | 0, _ => rfl
  | n + 1, h => by rw [bitsOf, bitsOf, bitsOf_congr (fun i hi => h i (by omega)), h n (by omega)]
theorem bitsOf_0 (f : Nat → Bool) (n i : Nat) (h : i < n) : (bitsOf f n = 0) → f i = false := by
  intro q
  have := bitsOf_tb f n i
  rw [q] at this
  simpa [h] using this.symm
/-- how many bits -/
def cntB (f : Nat → Bool) : Nat → Nat
  | 0 => 0
  | n + 1 => cntB f n + (if f n then 1 else 0)
def pop (x : Nat) : Nat := cntB (fun i => x.testBit i) 20
theorem cntB_le (f : Nat → Bool) : ∀ n, cntB f n ≤ n
  | 0 => Nat.le_refl _
  | n + 1 => by rw [cntB]; have := cntB_le f n; split <;> omega
theorem cntB_congr {f g : Nat → Bool} : ∀ {n : Nat}, (∀ i, i < n → f i = g i) → cntB f n = cntB g n
  | 0, _ => rfl
  | n + 1, h => by rw [cntB, cntB, cntB_congr (fun i hi => h i (by omega)), h n (by omega)]
theorem pop_le (x : Nat) : pop x ≤ 20 := cntB_le _ _
theorem pop_bits (f : Nat → Bool) : pop (bitsOf f 20) = cntB f 20 := cntB_congr (fun i hi => by rw [bitsOf_tb]; simp [hi])
/-- how long a word of a strength lasts -/
def lastsN (span rule s : Nat) : Nat := if rule = 0 then span else if rule = 1 then s * span else span * 2 ^ (s - 1)
/-- the reading of a word: its strength, where it was last -/
abbrev RW : Type := Nat → Nat × Nat
def metW (prior words w : Nat) : Bool := words.testBit w && !prior.testBit w
/-- a word that was met or not -/
def w1 (R : RW) (prior words p w : Nat) : Nat × Nat := if metW prior words w then (if (R w).1 < 9 then (R w).1 + 1 else (R w).1, p) else R w
def goneW (R : RW) (span rule prior words p w : Nat) : Bool := decide (0 < (w1 R prior words p w).1) && decide (lastsN span rule (w1 R prior words p w).1 ≤ p - (w1 R prior words p w).2)
def w2 (R : RW) (span rule prior words p w : Nat) : Nat × Nat := if goneW R span rule prior words p w then (0, (w1 R prior words p w).2) else w1 R prior words p w
def freshB (R : RW) (prior words w : Nat) : Bool := metW prior words w && (R w).1 == 0
def againB (R : RW) (prior words w : Nat) : Bool := metW prior words w && !((R w).1 == 0)
/-- what a place shows: new words, known ones, lost ones, kept ones -/
abbrev PL : Type := Nat × Nat × Nat × Nat
def showP (R : RW) (span rule prior words p : Nat) : PL := (bitsOf (freshB R prior words) 20, bitsOf (againB R prior words) 20, bitsOf (goneW R span rule prior words p) 20, bitsOf (fun w => decide (0 < (w2 R span rule prior words p w).1)) 20)
/-- the reading so far: words, places -/
abbrev RD : Type := RW × List PL
def rd0 : RD := (fun _ => (0, 0), [])
def rdStep (span rule prior : Nat) (D : RD) (words : Nat) : RD := (w2 D.1 span rule prior words D.2.length, D.2 ++ [showP D.1 span rule prior words D.2.length])
def rdOf (span rule prior : Nat) (ws : List Nat) : RD := ws.foldl (rdStep span rule prior) rd0
def PL0 : PL := (0, 0, 0, 0)
theorem rdStep_len (span rule prior : Nat) (D : RD) (words : Nat) : (rdStep span rule prior D words).2.length = D.2.length + 1 := by simp [rdStep]
theorem rdFold_len (span rule prior : Nat) : ∀ (ws : List Nat) (D : RD), (ws.foldl (rdStep span rule prior) D).2.length = D.2.length + ws.length
  | [], D => rfl
  | w :: t, D => by rw [List.foldl_cons, rdFold_len span rule prior t, rdStep_len, List.length_cons]; omega
theorem rdOf_len (span rule prior : Nat) (ws : List Nat) : (rdOf span rule prior ws).2.length = ws.length := by rw [rdOf, rdFold_len]; simp [rd0]
/-- what holds of every reading -/
def rdOk (D : RD) : Prop := ∀ w, (D.1 w).1 ≤ 9 ∧ (0 < (D.1 w).1 → (D.1 w).2 < D.2.length)
theorem rd0_ok : rdOk rd0 := fun w => ⟨Nat.zero_le _, fun h => absurd h (Nat.lt_irrefl 0)⟩
theorem w1_ok {D : RD} (h : rdOk D) (prior words w : Nat) : (w1 D.1 prior words D.2.length w).1 ≤ 9 ∧ (0 < (w1 D.1 prior words D.2.length w).1 → (w1 D.1 prior words D.2.length w).2 ≤ D.2.length) := by
  have := h w
  unfold w1
  split
  · refine ⟨?_, fun _ => Nat.le_refl _⟩
    show (if (D.1 w).1 < 9 then (D.1 w).1 + 1 else (D.1 w).1) ≤ 9
    split <;> omega
  · exact ⟨this.1, fun q => Nat.le_of_lt (this.2 q)⟩
theorem rdStep_ok {span rule prior : Nat} {D : RD} (h : rdOk D) (words : Nat) : rdOk (rdStep span rule prior D words) := by
  intro w
  have h1 := w1_ok h prior words w
  rw [rdStep_len]
  show (w2 D.1 span rule prior words D.2.length w).1 ≤ 9 ∧ (0 < (w2 D.1 span rule prior words D.2.length w).1 → (w2 D.1 span rule prior words D.2.length w).2 < D.2.length + 1)
  unfold w2
  split
  · exact ⟨Nat.zero_le _, fun q => absurd q (Nat.lt_irrefl 0)⟩
  · exact ⟨h1.1, fun q => Nat.lt_succ_of_le (h1.2 q)⟩
theorem rdFold_ok {span rule prior : Nat} : ∀ (ws : List Nat) (D : RD), rdOk D → rdOk (ws.foldl (rdStep span rule prior) D)
  | [], _, h => h
  | w :: t, _, h => rdFold_ok t _ (rdStep_ok h w)
theorem rdOf_ok (span rule prior : Nat) (ws : List Nat) : rdOk (rdOf span rule prior ws) := rdFold_ok ws _ rd0_ok
theorem lastsN_lt {span rule s : Nat} (h1 : span ≤ 4) (h2 : s ≤ 9) : lastsN span rule s ≤ 1024 := by
  unfold lastsN
  split
  · omega
  · split
    · have : s * span ≤ 9 * 4 := Nat.mul_le_mul h2 h1
      omega
    · have h3 : 2 ^ (s - 1) ≤ 2 ^ 8 := Nat.pow_le_pow_right (by decide) (by omega)
      have : span * 2 ^ (s - 1) ≤ 4 * 2 ^ 8 := Nat.mul_le_mul h1 h3
      omega
/-- the biggest number of new words, the sum of those lost -/
def peakL (l : List PL) : Nat := l.foldl (fun m q => max m (pop q.1)) 0
def lossL (l : List PL) : Nat := l.foldl (fun s q => s + pop q.2.2.1) 0
