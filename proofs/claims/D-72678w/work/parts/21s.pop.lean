/-! how many bits: the library's way of counting -/
set_option maxRecDepth 100000
theorem and_split {a m y M : Nat} (ha : a < 256) (hm : m < 256) : (a + 256 * y) &&& (m + 256 * M) = (a &&& m) + 256 * (y &&& M) := by
  have e : ∀ u v : Nat, u + 256 * v = 2 ^ 8 * v + u := fun u v => by omega
  have hx : a &&& m < 2 ^ 8 := Nat.lt_of_le_of_lt Nat.and_le_left ha
  rw [e a y, e m M, e (a &&& m)]
  apply Nat.eq_of_testBit_eq
  intro i
  rw [Nat.testBit_and, Nat.testBit_two_pow_mul_add _ ha, Nat.testBit_two_pow_mul_add _ hm, Nat.testBit_two_pow_mul_add _ hx]
  split
  · rw [Nat.testBit_and]
  · rw [Nat.testBit_and]
def st2 (m1 m2 x : Nat) : Nat := ((x - (x / 2 &&& m1)) &&& m2) + ((x - (x / 2 &&& m1)) / 4 &&& m2)
theorem fin1 : ∀ a, a < 256 → ∀ r, r < 2 → (a / 2 + 128 * r) &&& 85 = a / 2 &&& 85 := by decide +kernel
theorem fin2 : ∀ a, a < 256 → ∀ r, r < 4 → (a / 4 + 64 * r) &&& 51 = a / 4 &&& 51 := by decide +kernel
theorem st2_split {a y m1 m2 : Nat} (ha : a < 256) : st2 (85 + 256 * m1) (51 + 256 * m2) (a + 256 * y) = st2 85 51 a + 256 * st2 m1 m2 y := by
  have e1 : (a + 256 * y) / 2 = (a / 2 + 128 * (y % 2)) + 256 * (y / 2) := by omega
  have e2 : ((a + 256 * y) / 2 &&& (85 + 256 * m1)) = (a / 2 &&& 85) + 256 * (y / 2 &&& m1) := by
    rw [e1, and_split (by omega) (by decide), fin1 a ha _ (Nat.mod_lt _ (by decide))]
  have b1 : (a / 2 &&& 85) ≤ a / 2 := Nat.and_le_left
  have b2 : (y / 2 &&& m1) ≤ y / 2 := Nat.and_le_left
  have e3 : a + 256 * y - ((a / 2 &&& 85) + 256 * (y / 2 &&& m1)) = (a - (a / 2 &&& 85)) + 256 * (y - (y / 2 &&& m1)) := by omega
  unfold st2
  rw [e2, e3]
  generalize hp : a - (a / 2 &&& 85) = p
  generalize hq : y - (y / 2 &&& m1) = q
  have hp2 : p < 256 := by omega
  have e4 : (p + 256 * q) / 4 = (p / 4 + 64 * (q % 4)) + 256 * (q / 4) := by omega
  rw [and_split hp2 (by decide), e4, and_split (by omega) (by decide), fin2 p hp2 _ (Nat.mod_lt _ (by decide))]
  omega
def pop8 (a : Nat) : Nat := cntB (fun i => a.testBit i) 8
theorem fin3 : ∀ a, a < 256 → st2 85 51 a % 16 ≤ 4 ∧ st2 85 51 a / 16 ≤ 4 ∧ st2 85 51 a % 16 + st2 85 51 a / 16 = pop8 a := by decide +kernel
theorem fin4 : ∀ c, c < 16 → st2 21845 13107 c % 16 ≤ 4 ∧ st2 21845 13107 c / 16 ≤ 4 ∧ st2 21845 13107 c % 16 + st2 21845 13107 c / 16 = cntB (fun i => c.testBit i) 4 := by decide +kernel
def bc (x : Nat) : Nat := 
  let i2 := st2 1431655765 858993459 x
  let i3 := (i2 + i2 / 16) &&& 252645135
  let i4 := i3 + i3 / 256
  (i4 + i4 / 65536) &&& 63
theorem and15 (x : Nat) : x &&& 15 = x % 16 := Nat.and_two_pow_sub_one_eq_mod x 4
theorem and63 (x : Nat) : x &&& 63 = x % 64 := Nat.and_two_pow_sub_one_eq_mod x 6
theorem and0f {a : Nat} (h : a < 256) (y M : Nat) : (a + 256 * y) &&& (15 + 256 * M) = a % 16 + 256 * (y &&& M) := by rw [and_split h (by decide), and15]
theorem tb_split {a y : Nat} (h : a < 256) (i : Nat) : (a + 256 * y).testBit i = if i < 8 then a.testBit i else y.testBit (i - 8) := by
  rw [show a + 256 * y = 2 ^ 8 * y + a by omega, Nat.testBit_two_pow_mul_add _ h]
theorem cntB_shift (f : Nat → Bool) : ∀ n k, cntB f (k + n) = cntB f k + cntB (fun i => f (k + i)) n
  | 0, k => rfl
  | n + 1, k => by rw [← Nat.add_assoc, cntB, cntB, cntB_shift f n k]; omega
theorem pop_split {a b c : Nat} (ha : a < 256) (hb : b < 256) : pop (a + 256 * (b + 256 * c)) = pop8 a + pop8 b + cntB (fun i => c.testBit i) 4 := by
  unfold pop
  rw [show (20 : Nat) = 8 + 12 from rfl, cntB_shift, show (12 : Nat) = 8 + 4 from rfl, cntB_shift]
  have e1 : cntB (fun i => (a + 256 * (b + 256 * c)).testBit i) 8 = pop8 a := cntB_congr (fun i hi => by rw [tb_split ha, if_pos hi])
  have e2 : cntB (fun i => (a + 256 * (b + 256 * c)).testBit (8 + i)) 8 = pop8 b := cntB_congr (fun i hi => by rw [tb_split ha, if_neg (by omega), show 8 + i - 8 = i by omega, tb_split hb, if_pos hi])
  have e3 : cntB (fun i => (a + 256 * (b + 256 * c)).testBit (8 + (8 + i))) 4 = cntB (fun i => c.testBit i) 4 := cntB_congr (fun i hi => by rw [tb_split ha, if_neg (by omega), tb_split hb, if_neg (by omega)]; congr 1; omega)
  rw [e1, e2, e3]
  omega
theorem fin5 (A B C : Nat) (a0 : A % 16 ≤ 4) (a1 : A / 16 ≤ 4) (b0 : B % 16 ≤ 4) (b1 : B / 16 ≤ 4) (c0 : C % 16 ≤ 4) (c1 : C / 16 ≤ 4) :
    (let i2 := A + 256 * (B + 256 * C)
     let i3 := (i2 + i2 / 16) &&& 252645135
     let i4 := i3 + i3 / 256
     (i4 + i4 / 65536) &&& 63) = A % 16 + A / 16 + (B % 16 + B / 16) + (C % 16 + C / 16) := by
  obtain ⟨A0, A1, hA, e0, e1⟩ : ∃ A0 A1, A = 16 * A1 + A0 ∧ A0 = A % 16 ∧ A1 = A / 16 := ⟨_, _, by omega, rfl, rfl⟩
  obtain ⟨B0, B1, hB, e2, e3⟩ : ∃ A0 A1, B = 16 * A1 + A0 ∧ A0 = B % 16 ∧ A1 = B / 16 := ⟨_, _, by omega, rfl, rfl⟩
  obtain ⟨C0, C1, hC, e4, e5⟩ : ∃ A0 A1, C = 16 * A1 + A0 ∧ A0 = C % 16 ∧ A1 = C / 16 := ⟨_, _, by omega, rfl, rfl⟩
  rw [← e0] at a0 ⊢
  rw [← e1] at a1 ⊢
  rw [← e2] at b0 ⊢
  rw [← e3] at b1 ⊢
  rw [← e4] at c0 ⊢
  rw [← e5] at c1 ⊢
  subst hA hB hC
  clear e0 e1 e2 e3 e4 e5
  have q1 : (16 * A1 + A0 + 256 * (16 * B1 + B0 + 256 * (16 * C1 + C0))) / 16 = A1 + 16 * (16 * B1 + B0) + 4096 * (16 * C1 + C0) := by omega
  have q2 : 16 * A1 + A0 + 256 * (16 * B1 + B0 + 256 * (16 * C1 + C0)) + (A1 + 16 * (16 * B1 + B0) + 4096 * (16 * C1 + C0)) = (16 * (A1 + B0) + (A0 + A1)) + 256 * ((16 * (B1 + C0) + (B0 + B1)) + 256 * (16 * C1 + (C0 + C1))) := by omega
  have q3 : (16 * (A1 + B0) + (A0 + A1) + 256 * (16 * (B1 + C0) + (B0 + B1) + 256 * (16 * C1 + (C0 + C1)))) &&& 252645135 = (A0 + A1) + 256 * ((B0 + B1) + 256 * (C0 + C1)) := by
    have r1 : (16 * (A1 + B0) + (A0 + A1)) % 16 = A0 + A1 := by clear q1 q2; omega
    have r2 : (16 * (B1 + C0) + (B0 + B1)) % 16 = B0 + B1 := by clear q1 q2; omega
    have r3 : (16 * C1 + (C0 + C1)) % 16 = C0 + C1 := by clear q1 q2; omega
    have r4 : 16 * C1 + (C0 + C1) &&& (15 + 256 * 15) = C0 + C1 := by
      have := and0f (a := 16 * C1 + (C0 + C1)) (by omega) 0 15
      rw [Nat.mul_zero, Nat.add_zero, Nat.zero_and, Nat.mul_zero, Nat.add_zero, r3] at this
      exact this
    rw [show (252645135 : Nat) = 15 + 256 * (15 + 256 * (15 + 256 * 15)) from rfl, and0f (by omega), and0f (by omega), r1, r2, r4]
  simp only [q1, q2, q3]
  have q4 : (A0 + A1 + 256 * (B0 + B1 + 256 * (C0 + C1))) / 256 = (B0 + B1) + 256 * (C0 + C1) := by omega
  have q5 : (A0 + A1 + 256 * (B0 + B1 + 256 * (C0 + C1)) + (B0 + B1 + 256 * (C0 + C1))) / 65536 = C0 + C1 := by omega
  rw [q4, q5, and63]
  omega
theorem bc_pop (x : Nat) (h : x < 1048576) : bc x = pop x := by
  obtain ⟨a, b, c, ha, hb, hc, rfl⟩ : ∃ a b c, a < 256 ∧ b < 256 ∧ c < 16 ∧ x = a + 256 * (b + 256 * c) := ⟨x % 256, x / 256 % 256, x / 65536, by omega, by omega, by omega, by omega⟩
  have s1 : st2 1431655765 858993459 (a + 256 * (b + 256 * c)) = st2 85 51 a + 256 * (st2 85 51 b + 256 * st2 21845 13107 c) := by
    rw [show (1431655765 : Nat) = 85 + 256 * (85 + 256 * 21845) from rfl, show (858993459 : Nat) = 51 + 256 * (51 + 256 * 13107) from rfl, st2_split ha, st2_split hb]
  have fa := fin3 a ha
  have fb := fin3 b hb
  have fc := fin4 c hc
  rw [pop_split ha hb, ← fa.2.2, ← fb.2.2, ← fc.2.2]
  unfold bc
  rw [s1]
  exact fin5 _ _ _ fa.1 fa.2.1 fb.1 fb.2.1 fc.1 fc.2.1
