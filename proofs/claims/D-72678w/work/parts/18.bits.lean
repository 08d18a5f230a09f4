/-! bits and small numbers (nx_and, nx_xor, s_l began as rows of kit/laws/BITS.to-paste) -/
set_option maxRecDepth 100000
theorem nx_and (a b : Nat) : nI a &&& nI b = nI (a &&& b) := by
  apply Int32.toBitVec_inj.1
  show BitVec.ofNat 32 a &&& BitVec.ofNat 32 b = BitVec.ofNat 32 (a &&& b)
  apply BitVec.eq_of_getLsbD_eq
  intro i hi
  simp [hi]
theorem nx_xor (a b : Nat) : nI a ^^^ nI b = nI (a ^^^ b) := by
  apply Int32.toBitVec_inj.1
  show BitVec.ofNat 32 a ^^^ BitVec.ofNat 32 b = BitVec.ofNat 32 (a ^^^ b)
  apply BitVec.eq_of_getLsbD_eq
  intro i hi
  simp [hi]
theorem nx_or (a b : Nat) : nI a ||| nI b = nI (a ||| b) := by
  apply Int32.toBitVec_inj.1
  show BitVec.ofNat 32 a ||| BitVec.ofNat 32 b = BitVec.ofNat 32 (a ||| b)
  apply BitVec.eq_of_getLsbD_eq
  intro i hi
  simp [hi]
/-- a without the bits of b -/
def andn (a b : Nat) : Nat := a ^^^ (a &&& b)
theorem andn_tb (a b i : Nat) : (andn a b).testBit i = (a.testBit i && !b.testBit i) := by
  unfold andn
  rw [Nat.testBit_xor, Nat.testBit_and]
  cases a.testBit i <;> cases b.testBit i <;> rfl
theorem nx_andn (a b : Nat) : nI a &&& (nI b ^^^ (-1)) = nI (andn a b) := by
  apply Int32.toBitVec_inj.1
  show BitVec.ofNat 32 a &&& (BitVec.ofNat 32 b ^^^ (-1#32)) = BitVec.ofNat 32 (andn a b)
  apply BitVec.eq_of_getLsbD_eq
  intro i hi
  have : (-1#32 : BitVec 32).getLsbD i = true := by
    have h : ∀ i, i < 32 → (-1#32 : BitVec 32).getLsbD i = true := by decide +kernel
    exact h i hi
  rw [BitVec.getLsbD_and, BitVec.getLsbD_xor, this, BitVec.getLsbD_ofNat, BitVec.getLsbD_ofNat, BitVec.getLsbD_ofNat, andn_tb]
  simp [hi]
theorem s_l : ∀ n, n < 32 → ((nI n &&& 31).toBitVec.smod 32).toNat = n := by decide +kernel
theorem nx_shr {a k : Nat} (ha : a < 2147483648) (hk : k < 32) : nI a >>> (nI k &&& 31) = nI (a / 2 ^ k) := pk_shrN (by omega) _ k (s_l k hk)
theorem nx_p2 : ∀ k, k < 32 → nI 1 <<< (nI k &&& 31) = nI (2 ^ k) := by decide +kernel
theorem nx_hasI {a k : Nat} (ha : a < 2147483648) (hk : k < 32) : ((nI a >>> (nI k &&& 31)) &&& nI 1 = nI 1) = (a.testBit k = true) := by
  rw [nx_shr ha hk, nx_and]
  have h1 : a / 2 ^ k &&& 1 = a / 2 ^ k % 2 := Nat.and_one_is_mod _
  rw [h1]
  have h2 : a / 2 ^ k % 2 < 2 := Nat.mod_lt _ (by decide)
  apply propext
  rw [nI_eq (by omega) (by omega)]
  rw [Nat.testBit_eq_decide_div_mod_eq]
  simp
/-- a boolean as an int -/
def amC01 (c : Prop) [Decidable c] : Int32 := if c then nI 1 else nI 0
theorem amC01_t {c : Prop} [Decidable c] (h : c) : amC01 c = nI 1 := if_pos h
theorem amC01_f {c : Prop} [Decidable c] (h : ¬ c) : amC01 c = nI 0 := if_neg h
theorem amC01_0 {c : Prop} [Decidable c] : (amC01 c = 0) = ¬ c := by
  by_cases h : c
  · rw [amC01_t h]
    exact propext ⟨fun q => absurd q (by decide), fun q => absurd h q⟩
  · rw [amC01_f h]
    exact propext ⟨fun _ => h, fun _ => rfl⟩
theorem amC01_1 {c : Prop} [Decidable c] : (¬ amC01 c = 0) = c := by rw [amC01_0]; exact propext Classical.not_not
theorem amC01_i {c d : Prop} [Decidable c] [Decidable d] (h : c ↔ d) : amC01 c = amC01 d := by
  by_cases q : c
  · rw [amC01_t q, amC01_t (h.mp q)]
  · rw [amC01_f q, amC01_f (fun z => q (h.mpr z))]
theorem amC01_nb (c : Prop) [Decidable c] : narrow .boolean (.int (amC01 c)) = .int (amC01 c) := by
  by_cases q : c
  · rw [amC01_t q]; decide
  · rw [amC01_f q]; decide
theorem amNb0 : (narrow .boolean (.int (nI 0)) = .int (nI 0)) = True := eq_true (by decide)
theorem amNb1 : (narrow .boolean (.int (nI 1)) = .int (nI 1)) = True := eq_true (by decide)
theorem amCmpLt (x y : Int64) : (lg_cmp x y < 0) = (x < y) := by
  unfold lg_cmp
  apply propext
  by_cases h : x > y
  · rw [if_pos h]
    constructor
    · intro q; exact absurd q (by decide)
    · intro q; exact absurd (Int64.lt_trans q h) Int64.lt_irrefl
  · rw [if_neg h]
    by_cases e : x = y
    · rw [if_pos e]
      constructor
      · intro q; exact absurd q (by decide)
      · intro q; rw [e] at q; exact absurd q Int64.lt_irrefl
    · rw [if_neg e]
      refine ⟨fun _ => ?_, fun _ => by decide⟩
      rw [Int64.lt_iff_toInt_lt]
      have h1 : ¬ y.toInt < x.toInt := fun q => h (Int64.lt_iff_toInt_lt.mpr q)
      have h2 : x.toInt ≠ y.toInt := fun q => e (Int64.toInt_inj.mp q)
      omega
theorem amCmpGt (x y : Int64) : (0 < lg_cmp x y) = (y < x) := by
  unfold lg_cmp
  apply propext
  by_cases h : x > y
  · rw [if_pos h]
    exact ⟨fun _ => h, fun _ => by decide⟩
  · rw [if_neg h]
    refine ⟨fun q => ?_, fun q => absurd q h⟩
    by_cases e : x = y
    · rw [if_pos e] at q; exact absurd q (by decide)
    · rw [if_neg e] at q; exact absurd q (by decide)
theorem amByte : ∀ x, x < 128 → (nI x).toInt8.toInt32 = nI x := by decide +kernel
theorem amByteN (x : Nat) (h : x < 128) : vp_nar .byte (nI x) = nI x := by rw [vp_nar_byte]; exact amByte x h
/-- a long within bounds that is an int's -/
theorem amInL {x : Int32} {a b : Nat} (ha : a < 2147483648) (hb : b < 2147483648) : (lN a ≤ x.toInt64 ∧ x.toInt64 ≤ lN b) ↔ ∃ j, a ≤ j ∧ j ≤ b ∧ x = nI j := by
  rw [Int64.le_iff_toInt_le, Int64.le_iff_toInt_le, lN_toInt (by omega), lN_toInt (by omega), Int32.toInt_toInt64]
  constructor
  · rintro ⟨h1, h2⟩
    refine ⟨x.toInt.toNat, by omega, by omega, ?_⟩
    apply Int32.toInt_inj.mp
    rw [nI_toInt (by omega)]
    omega
  · rintro ⟨j, h1, h2, rfl⟩
    rw [nI_toInt (by omega)]
    omega
theorem am64 (n : Nat) (h : n < 2147483648) : (nI n).toInt64 = lN n := nI_l (by omega)
theorem amN0le {n : Nat} (h : 24 ≤ n) : (amN0 ≤ n) = True := eq_true h
theorem amLe0 {n : Nat} (h : n < 2147483648) : (nI n ≤ 0) = (n = 0) := by rw [am0, amLeI h (by decide)]; exact propext Nat.le_zero
theorem amGt0 {n : Nat} (h : n < 2147483648) : (0 < nI n) = (0 < n) := by rw [am0, amLtI (by decide) h]
theorem amEq0 {n : Nat} (h : n < 2147483648) : (nI n = 0) = (n = 0) := by rw [am0, amEqI h (by decide)]
