/-! the reference: draws and what they do -/
set_option maxRecDepth 100000
theorem listN_ext {l g : List Nat} (h : l.length = g.length) (e : ∀ i, i < l.length → l.getD i 0 = g.getD i 0) : l = g := by
  refine List.ext_getElem h (fun i h1 h2 => ?_)
  have := e i h1
  rw [List.getD_eq_getElem?_getD, List.getD_eq_getElem?_getD, List.getElem?_eq_getElem h1, List.getElem?_eq_getElem h2] at this
  exact this
theorem nC {n : Nat} (h : n < 2147483648) : (nI n).toNatClampNeg = n := amCl_nI h
theorem inN {y a b : Nat} (hy : y < 2147483648) (ha : a < 2147483648) (hb : b < 2147483648) : (lN a ≤ (nI y).toInt64 ∧ (nI y).toInt64 ≤ lN b) ↔ (a ≤ y ∧ y ≤ b) := by
  rw [amInL ha hb]
  constructor
  · rintro ⟨j, h1, h2, h3⟩
    have := (nI_eq (by omega) (by omega)).mp h3
    omega
  · rintro ⟨h1, h2⟩
    exact ⟨y, h1, h2, rfl⟩
theorem add_hap {S : HS} (h : hsOk S) {y : Nat} (hy : y < 1048576) : (addR S (nI y)).1 = S.hap0 y := by
  have n7 := h.n7
  have i := inN (y := y) (a := 1) (b := 1048575) (by omega) (by decide) (by decide)
  unfold addR HS.hap0
  rw [nC (by omega)]
  by_cases q : 1 ≤ y ∧ y ≤ 1048575
  · rw [if_neg (fun z => z (i.mpr q))]
    by_cases q7 : S.ord.length = 7
    · rw [if_pos q7, if_neg (by omega)]
    · rw [if_neg q7, if_pos (by omega)]
  · rw [if_pos (fun z => q (i.mp z)), if_neg (by omega)]
theorem chg_hap {S : HS} (h : hsOk S) {a y : Nat} (ha : a < 7) (hy : y < 1048576) : (chgR S (nI a) (nI y)).1 = S.hap2 a y := by
  have i := inN (y := y) (a := 1) (b := 1048575) (by omega) (by decide) (by decide)
  unfold chgR HS.hap2
  rw [nC (by omega), nC (by omega)]
  by_cases q1 : a < S.ord.length
  · rw [if_neg (fun z => z ⟨q1, rfl⟩)]
    by_cases q : 1 ≤ y ∧ y ≤ 1048575
    · rw [if_neg (fun z => z (i.mpr q)), if_pos (show a < S.ord.length ∧ 0 < y from ⟨q1, by omega⟩)]
      have sx := h.X.at a
      by_cases e : S.sets.getD a 0 = y
      · rw [if_pos (by rw [e])]
        have : S.sets.set a y = S.sets := listN_ext (by rw [List.length_set]) (fun i hi => by
          rw [setl_getD (by rw [h.ls]; exact q1)]
          by_cases z : i = a
          · rw [if_pos z, z, e]
          · rw [if_neg z])
        unfold HS.setW
        rw [this]
      · rw [if_neg (fun z => e ((nI_eq (by omega) (by omega)).mp z))]
    · rw [if_pos (fun z => q (i.mp z)), if_neg (by omega)]
  · rw [if_pos (fun z => q1 z.1), if_neg (fun z => q1 z.1)]
theorem put_hap {S : HS} (h : hsOk S) {a b : Nat} (ha : a < 7) (hb : b < 7) : (putR S (nI a) (nI b)).1 = S.hap3 a b := by
  unfold putR HS.hap3
  rw [nC (by omega), nC (by omega)]
  by_cases q1 : a < S.ord.length
  · by_cases q2 : b < S.ord.length
    · by_cases e : a = b
      · rw [if_pos (fun z => z.2.2 (by rw [e])), if_neg]
        rintro ⟨_, _, z | z⟩
        · obtain ⟨r, hr⟩ := h.rk
          have := hr a b q1 q2 z
          rw [e] at this
          omega
        · unfold HS.mayBe at z
          simp [e] at z
      · rw [if_neg (fun z => z ⟨⟨q1, rfl⟩, ⟨q2, rfl⟩, fun y => e ((nI_eq (by omega) (by omega)).mp y)⟩)]
        by_cases c : (S.ahead.getD a 0).testBit b = false ∧ S.mayBe a b = false
        · rw [if_pos c, if_neg]
          rintro ⟨_, _, z | z⟩
          · rw [c.1] at z; cases z
          · rw [c.2] at z; cases z
        · suffices c0 : a < S.ord.length ∧ b < S.ord.length ∧ ((S.ahead.getD a 0).testBit b = true ∨ S.mayBe a b = true) by
            rw [if_neg c, if_pos c0]
          refine ⟨q1, q2, ?_⟩
          cases c1 : (S.ahead.getD a 0).testBit b with
          | true => exact Or.inl rfl
          | false =>
            cases c2 : S.mayBe a b with
            | true => exact Or.inr rfl
            | false => exact absurd ⟨c1, c2⟩ c
    · rw [if_pos (fun z => q2 z.2.1.1), if_neg (fun z => q2 z.2.1)]
  · rw [if_pos (fun z => q1 z.1.1), if_neg (fun z => q1 z.1)]
theorem shf_hap {S : HS} {a b : Nat} (ha : a < 7) (hb : b < 7) : (shfR S (nI a) (nI b)).1 = S.hap4 a b := by
  unfold shfR HS.hap4
  rw [nC (by omega), nC (by omega)]
  by_cases q1 : a < S.ord.length
  · by_cases q2 : b < S.ord.length
    · rw [if_neg (fun z => z ⟨⟨q1, rfl⟩, ⟨q2, rfl⟩⟩), if_pos (show a < S.ord.length ∧ b < S.ord.length from ⟨q1, q2⟩)]
      by_cases e : a = b
      · rw [if_pos (by rw [e])]
        subst e
        have : (S.ord.eraseIdx a).insertIdx a (S.ord.getD a 0) = S.ord := listN_ext (shift_len q1 q1) (fun i hi => by
          rw [shift_getD q1 q1]
          by_cases z : i = a
          · rw [if_pos z, z]
          · rw [if_neg z, if_neg (by omega), if_neg (by omega)])
        unfold HS.shift HS.setO
        rw [this]
      · rw [if_neg (fun z => e ((nI_eq (by omega) (by omega)).mp z))]
    · rw [if_pos (fun z => q2 z.2.1), if_neg (fun z => q2 z.2)]
  · rw [if_pos (fun z => q1 z.1.1), if_neg (fun z => q1 z.1)]
theorem tll_hap0 {S : HS} (h : hsOk S) {v : Nat} (h1 : 1 ≤ v) (h4 : v ≤ 4) : (tllR S (nI 0) (nI v)).1 = S.setT 0 v := by
  have i := inN (y := v) (a := 1) (b := 4) (by omega) (by decide) (by decide)
  have s4 := h.B.2.1
  unfold tllR
  rw [if_neg (fun z => z (Or.inl ⟨rfl, i.mpr ⟨h1, h4⟩⟩)), nC (by decide), nC (by omega)]
  by_cases e : S.span = v
  · have eq : nI (figN S 0) = nI v := by show nI S.span = _; rw [e]
    rw [if_pos eq]
    unfold HS.setT
    rw [if_pos rfl, if_neg (by decide), if_neg (by decide), ← e]
  · have ne : ¬ nI (figN S 0) = nI v := fun z => e ((nI_eq (by show S.span < _; omega) (by omega)).mp z)
    rw [if_neg ne]
theorem tll_hap2 {S : HS} (h : hsOk S) {v : Nat} (h4 : v ≤ 2) : (tllR S (nI 2) (nI v)).1 = S.setT 2 v := by
  have i := inN (y := v) (a := 0) (b := 2) (by omega) (by decide) (by decide)
  have s4 := h.B.2.2.1
  unfold tllR
  rw [if_neg (fun z => z (Or.inr (Or.inr ⟨rfl, i.mpr ⟨Nat.zero_le _, h4⟩⟩))), nC (by decide), nC (by omega)]
  by_cases e : S.rule = v
  · have eq : nI (figN S 2) = nI v := by show nI S.rule = _; rw [e]
    rw [if_pos eq]
    unfold HS.setT
    rw [if_neg (by decide), if_neg (by decide), if_pos rfl, ← e]
  · have ne : ¬ nI (figN S 2) = nI v := fun z => e ((nI_eq (by show S.rule < _; omega) (by omega)).mp z)
    rw [if_neg ne]
def tX6_draws : amT := fun as h K => match as with
  | [.ref t, .int b0] => ∃ (S : HS) (b : Nat), t = (124 : Nat) ∧ mdAt h ∧ RwIs h.2.1 125 0 S ∧ S.draw < 2147483648 ∧ b0 = nI b ∧ 1 ≤ b ∧ b < 2147483648 ∧ ∀ m', RwIs m' 125 0 (S.setD (lcgN S.draw)) → (∀ i : Nat, i ≠ 125 → m' i = h.2.1 i) → K (some (.int (nI (lcgN S.draw / b)))) (amSI h m')
  | _ => False
/-! ReadingStagesModel.draws(I)I -/
def kX6_draws : Nat → Bool := fun pc => false
def rX6_draws : List (Nat × amS) := [(1, 1, 0, 0, amTget 6 0), (6, 1, 0, 0, amTget 6 0), (12, 0, 0, 0, amTcon (.long (1103515245))), (16, 0, 0, 0, amTcon (.long (12345))), (20, 0, 0, 0, amTcon (.long (2147483647))), (27, 1, 0, 0, amTget 6 0)]
def eX6_draws (ret : Option Value → amH → Nat → Nat → Prop) (F : amX) : Nat → amX := amWp cX6_draws kX6_draws (amLk rX6_draws) (some .int) 0 0 ret F
def sX6_draws (ret : Option Value → amH → Nat → Nat → Prop) (F : amX) : Nat → amX := amWs cX6_draws kX6_draws (amLk rX6_draws) (some .int) 0 0 ret F
theorem wX6_draws_0 {ret F n h} {v0 v1 st} : eX6_draws ret F (n + 1) 0 [v0, v1] (st) h 0 0 = (amIsR v0 ∧ eX6_draws ret F n 1 [v0, v1] (v0 :: st) h 0 0) := (amWp_dec rfl dX6_draws_0 rfl).trans rfl
theorem uX6_draws_0 {ret F n h} {v0 v1 st} : sX6_draws ret F n 0 [v0, v1] (st) h 0 0 = (amIsR v0 ∧ eX6_draws ret F n 1 [v0, v1] (v0 :: st) h 0 0) := (amWs_dec dX6_draws_0 rfl).trans rfl
theorem wX6_draws_1 {ret F n h} {v0 v1 a} : eX6_draws ret F (n + 1) 1 [v0, v1] (.ref a :: []) h 0 0 = (h.1 a = (0, 6) ∧ eX6_draws ret F n 4 [v0, v1] (va_rf (h.2.2.2.1 a 0) :: []) h 0 0) := (amWp_dec rfl dX6_draws_1 rfl).trans (amS4 (Nat.le_of_ble_eq_true rfl) (Nat.le_of_ble_eq_true rfl) (Nat.le_of_ble_eq_true rfl) (Nat.le_of_ble_eq_true rfl))
theorem wX6_draws_4 {ret F n h} {v0 v1 st} : eX6_draws ret F (n + 1) 4 [v0, v1] (st) h 0 0 = (eX6_draws ret F n 5 [v0, v1] (.int (nI 5) :: st) h 0 0) := (amWp_dec rfl dX6_draws_4 rfl).trans rfl
theorem wX6_draws_5 {ret F n h} {v0 v1 st} : eX6_draws ret F (n + 1) 5 [v0, v1] (st) h 0 0 = (amIsR v0 ∧ eX6_draws ret F n 6 [v0, v1] (v0 :: st) h 0 0) := (amWp_dec rfl dX6_draws_5 rfl).trans rfl
theorem wX6_draws_6 {ret F n h} {v0 v1 r0 r1 a} : eX6_draws ret F (n + 1) 6 [v0, v1] (.ref a :: r0 :: r1 :: []) h 0 0 = (h.1 a = (0, 6) ∧ eX6_draws ret F n 9 [v0, v1] (va_rf (h.2.2.2.1 a 0) :: r0 :: r1 :: []) h 0 0) := (amWp_dec rfl dX6_draws_6 rfl).trans (amS4 (Nat.le_of_ble_eq_true rfl) (Nat.le_of_ble_eq_true rfl) (Nat.le_of_ble_eq_true rfl) (Nat.le_of_ble_eq_true rfl))
theorem wX6_draws_9 {ret F n h} {v0 v1 st} : eX6_draws ret F (n + 1) 9 [v0, v1] (st) h 0 0 = (eX6_draws ret F n 10 [v0, v1] (.int (nI 5) :: st) h 0 0) := (amWp_dec rfl dX6_draws_9 rfl).trans rfl
theorem wX6_draws_10 {ret F n h} {v0 v1 st x a} : eX6_draws ret F (n + 1) 10 [v0, v1] (.int x :: .ref a :: st) h 0 0 = ((h.1 a).1 = 1 ∧ vp_in x (h.1 a).2 ∧ eX6_draws ret F n 11 [v0, v1] (.int (h.2.1 a x.toNatClampNeg) :: st) h 0 0) := (amWp_dec rfl dX6_draws_10 rfl).trans rfl
theorem wX6_draws_11 {ret F n h} {v0 v1 st x} : eX6_draws ret F (n + 1) 11 [v0, v1] (.int x :: st) h 0 0 = (eX6_draws ret F n 12 [v0, v1] (.long x.toInt64 :: st) h 0 0) := (amWp_dec rfl dX6_draws_11 rfl).trans rfl
theorem wX6_draws_12 {ret F n h} {v0 v1 r0 r1 r2} : eX6_draws ret F (n + 1) 12 [v0, v1] (r0 :: r1 :: r2 :: []) h 0 0 = (eX6_draws ret F n 15 [v0, v1] (.long (lN 1103515245) :: r0 :: r1 :: r2 :: []) h 0 0) := (amWp_dec rfl dX6_draws_12 rfl).trans (amS4 (Nat.le_of_ble_eq_true rfl) (Nat.le_of_ble_eq_true rfl) (Nat.le_of_ble_eq_true rfl) (Nat.le_of_ble_eq_true rfl))
theorem wX6_draws_15 {ret F n h} {v0 v1 st y x} : eX6_draws ret F (n + 1) 15 [v0, v1] (.long y :: .long x :: st) h 0 0 = (eX6_draws ret F n 16 [v0, v1] (.long (x * y) :: st) h 0 0) := (amWp_dec rfl dX6_draws_15 rfl).trans rfl
theorem wX6_draws_16 {ret F n h} {v0 v1 r0 r1 r2} : eX6_draws ret F (n + 1) 16 [v0, v1] (r0 :: r1 :: r2 :: []) h 0 0 = (eX6_draws ret F n 19 [v0, v1] (.long (lN 12345) :: r0 :: r1 :: r2 :: []) h 0 0) := (amWp_dec rfl dX6_draws_16 rfl).trans (amS4 (Nat.le_of_ble_eq_true rfl) (Nat.le_of_ble_eq_true rfl) (Nat.le_of_ble_eq_true rfl) (Nat.le_of_ble_eq_true rfl))
theorem wX6_draws_19 {ret F n h} {v0 v1 st y x} : eX6_draws ret F (n + 1) 19 [v0, v1] (.long y :: .long x :: st) h 0 0 = (eX6_draws ret F n 20 [v0, v1] (.long (x + y) :: st) h 0 0) := (amWp_dec rfl dX6_draws_19 rfl).trans rfl
theorem wX6_draws_20 {ret F n h} {v0 v1 r0 r1 r2} : eX6_draws ret F (n + 1) 20 [v0, v1] (r0 :: r1 :: r2 :: []) h 0 0 = (eX6_draws ret F n 23 [v0, v1] (.long (lN 2147483647) :: r0 :: r1 :: r2 :: []) h 0 0) := (amWp_dec rfl dX6_draws_20 rfl).trans (amS4 (Nat.le_of_ble_eq_true rfl) (Nat.le_of_ble_eq_true rfl) (Nat.le_of_ble_eq_true rfl) (Nat.le_of_ble_eq_true rfl))
theorem wX6_draws_23 {ret F n h} {v0 v1 st y x} : eX6_draws ret F (n + 1) 23 [v0, v1] (.long y :: .long x :: st) h 0 0 = (eX6_draws ret F n 24 [v0, v1] (.long (x &&& y) :: st) h 0 0) := (amWp_dec rfl dX6_draws_23 rfl).trans rfl
theorem wX6_draws_24 {ret F n h} {v0 v1 st x} : eX6_draws ret F (n + 1) 24 [v0, v1] (.long x :: st) h 0 0 = (eX6_draws ret F n 25 [v0, v1] (.int x.toInt32 :: st) h 0 0) := (amWp_dec rfl dX6_draws_24 rfl).trans rfl
theorem wX6_draws_25 {ret F n h} {v0 v1 st y x a} : eX6_draws ret F (n + 1) 25 [v0, v1] (.int y :: .int x :: .ref a :: st) h 0 0 = ((h.1 a).1 = 1 ∧ vp_in x (h.1 a).2 ∧ amN0 ≤ a ∧ eX6_draws ret F n 26 [v0, v1] (st) (amSI h (amU h.2.1 a x.toNatClampNeg y)) 0 0) := (amWp_dec rfl dX6_draws_25 rfl).trans rfl
theorem wX6_draws_26 {ret F n h} {v0 v1 st} : eX6_draws ret F (n + 1) 26 [v0, v1] (st) h 0 0 = (amIsR v0 ∧ eX6_draws ret F n 27 [v0, v1] (v0 :: st) h 0 0) := (amWp_dec rfl dX6_draws_26 rfl).trans rfl
theorem wX6_draws_27 {ret F n h} {v0 v1 a} : eX6_draws ret F (n + 1) 27 [v0, v1] (.ref a :: []) h 0 0 = (h.1 a = (0, 6) ∧ eX6_draws ret F n 30 [v0, v1] (va_rf (h.2.2.2.1 a 0) :: []) h 0 0) := (amWp_dec rfl dX6_draws_27 rfl).trans (amS4 (Nat.le_of_ble_eq_true rfl) (Nat.le_of_ble_eq_true rfl) (Nat.le_of_ble_eq_true rfl) (Nat.le_of_ble_eq_true rfl))
theorem wX6_draws_30 {ret F n h} {v0 v1 st} : eX6_draws ret F (n + 1) 30 [v0, v1] (st) h 0 0 = (eX6_draws ret F n 31 [v0, v1] (.int (nI 5) :: st) h 0 0) := (amWp_dec rfl dX6_draws_30 rfl).trans rfl
theorem wX6_draws_31 {ret F n h} {v0 v1 st x a} : eX6_draws ret F (n + 1) 31 [v0, v1] (.int x :: .ref a :: st) h 0 0 = ((h.1 a).1 = 1 ∧ vp_in x (h.1 a).2 ∧ eX6_draws ret F n 32 [v0, v1] (.int (h.2.1 a x.toNatClampNeg) :: st) h 0 0) := (amWp_dec rfl dX6_draws_31 rfl).trans rfl
theorem wX6_draws_32 {ret F n h} {v0 st x} : eX6_draws ret F (n + 1) 32 [v0, .int x] (st) h 0 0 = (eX6_draws ret F n 33 [v0, .int x] (.int x :: st) h 0 0) := (amWp_dec rfl dX6_draws_32 rfl).trans rfl
theorem wX6_draws_33 {ret F n h} {v0 v1 st y x} : eX6_draws ret F (n + 1) 33 [v0, v1] (.int y :: .int x :: st) h 0 0 = (¬ y = 0 ∧ eX6_draws ret F n 34 [v0, v1] (.int (x / y) :: st) h 0 0) := (amWp_dec rfl dX6_draws_33 rfl).trans rfl
theorem wX6_draws_34 {ret F n h} {v0 v1 x} : eX6_draws ret F (n + 1) 34 [v0, v1] ([.int x]) h 0 0 = (ret (some (.int x)) h 0 0) := (amWp_dec rfl dX6_draws_34 rfl).trans (amTrue ⟨_, rfl, rfl⟩)
theorem evX6_draws (l : Launch) (G : amG) : ∀ pc S i sz, amLk rX6_draws pc = some S → decode cX6_draws pc = .ok (i, sz) → amSiteP pc G l yX6_draws.cls yX6_draws.name yX6_draws.desc (amRm 1 0 0) i sz S.1 S.2.1 S.2.2.1 S.2.2.2 := amLk_ok (by
  refine List.forall_mem_cons.mpr ⟨⟨_, _, dX6_draws_1, amSite.P (amSiteGet ⟨_, rfl, by decide, Or.inl q1295⟩)⟩, ?_⟩
  refine List.forall_mem_cons.mpr ⟨⟨_, _, dX6_draws_6, amSite.P (amSiteGet ⟨_, rfl, by decide, Or.inl q1295⟩)⟩, ?_⟩
  refine List.forall_mem_cons.mpr ⟨⟨_, _, dX6_draws_12, amSite.P (amSiteLdc2 q1657)⟩, ?_⟩
  refine List.forall_mem_cons.mpr ⟨⟨_, _, dX6_draws_16, amSite.P (amSiteLdc2 q1658)⟩, ?_⟩
  refine List.forall_mem_cons.mpr ⟨⟨_, _, dX6_draws_20, amSite.P (amSiteLdc2 q1659)⟩, ?_⟩
  refine List.forall_mem_cons.mpr ⟨⟨_, _, dX6_draws_27, amSite.P (amSiteGet ⟨_, rfl, by decide, Or.inl q1295⟩)⟩, ?_⟩
  exact fun _ h => absurd h List.not_mem_nil)
theorem goX6_draws {ret F} (hF : amCld cX6_draws kX6_draws (amLk rX6_draws) (some .int) 0 0 ret F) (n : Nat) {pc ls st h k z} (q : sX6_draws ret F n pc ls st h k z) : F pc ls st h k z := hF.1 n pc ls st h k z q
theorem metX6_draws (l : Launch) (G : amG) : amMet l G yX6_draws (ws_ yX6_draws cX6_draws 2 (some .int)) 1 0 0 tX6_draws := by
  refine amMet_of (cut := kX6_draws) (by decide +kernel) (evX6_draws l G) ?_
  intro as h K hT
  match as, hT with
  | [.ref t, .int b0], ⟨S, b, e1, hR, hS, hd, e2, b1, b2, hK⟩ =>
  refine ⟨Nat.le_of_ble_eq_true rfl, fun F hF => ?_⟩
  show F 0 [.ref t, .int b0] [] h 0 0
  obtain ⟨t, rfl⟩ : ∃ i : Nat, i = t := ⟨_, rfl⟩
  subst e1; subst e2
  have f1 : h.2.1 125 5 = nI S.draw := hS.draw
  have e := lcgI S.draw hd
  have l1 := lcgN_lt S.draw
  have bz : (nI b = 0) = False := by rw [amEq0 b2]; exact eq_false (by omega)
  have dv : nI (lcgN S.draw) / nI b = nI (lcgN S.draw / b) := pk_div (by omega) (by omega) (by omega)
  refine goX6_draws hF 60 ?_
  simp (disch := omega) only [wX6_draws_0, uX6_draws_0, wX6_draws_1, wX6_draws_4, wX6_draws_5, wX6_draws_6, wX6_draws_9, wX6_draws_10, wX6_draws_11, wX6_draws_12, wX6_draws_15, wX6_draws_16, wX6_draws_19, wX6_draws_20, wX6_draws_23, wX6_draws_24, wX6_draws_25, wX6_draws_26, wX6_draws_27, wX6_draws_30, wX6_draws_31, wX6_draws_32, wX6_draws_33, wX6_draws_34, amSI_1, amSI_2, amSI_3, amSI_s, amU_at, amIsR_ref, amIsR_null, amIsR_rf, amRf_some, amRf_none, amClr_int, amClr_ref, amClr_null, amClr_long, amClr_ra, amClr_rf, amFit_int, amFit_oref, amFit_aref, amFit_onull, amFit_anull, amOptSome, amOptNone, List.cons_append, List.nil_append, true_and, and_true, true_implies, not_true_eq_false, not_false_eq_true, false_implies, and_self, Nat.add_zero, Nat.zero_add, ne_eq, Prod.mk.injEq, amC01_0, amC01_1, amC01_nb, amNb0, amNb1, amTcpI_d, Nat.reduceLeDiff, Nat.reduceAdd, Nat.reduceSub, Nat.reduceEqDiff, Nat.le_refl, amN0le, hR.s, hR.r, amVI, amCl_nI, f1, e, bz, dv]
  refine amRet.of (by decide) (by decide) (hK _ (RwIs.mk hS.n7 hS.ls hS.la ?_ ?_ ?_ ?_ ?_ ?_ (fun k hk => ?_) (fun k hk => ?_) (fun k hk => ?_)) (fun i hi => ?_))
  · simp (disch := omega) only [amU_at, amU_ne, amU_nj, amU_neR, up_ne, up_at, amSI_2]
    exact hS.n
  · simp (disch := omega) only [amU_at, amU_ne, amU_nj, amU_neR, up_ne, up_at, amSI_2]
    exact hS.prior
  · simp (disch := omega) only [amU_at, amU_ne, amU_nj, amU_neR, up_ne, up_at, amSI_2]
    exact hS.span
  · simp (disch := omega) only [amU_at, amU_ne, amU_nj, amU_neR, up_ne, up_at, amSI_2]
    exact hS.bound
  · simp (disch := omega) only [amU_at, amU_ne, amU_nj, amU_neR, up_ne, up_at, amSI_2]
    exact hS.rule
  · simp (disch := omega) only [amU_at, amU_ne, amU_nj, amU_neR, up_ne, up_at, amSI_2]
    rfl
  · simp (disch := omega) only [amU_at, amU_ne, amU_nj, amU_neR, up_ne, up_at, amSI_2]
    exact hS.o0 k hk
  · simp (disch := omega) only [amU_at, amU_ne, amU_nj, amU_neR, up_ne, up_at, amSI_2]
    exact hS.s0 k hk
  · simp (disch := omega) only [amU_at, amU_ne, amU_nj, amU_neR, up_ne, up_at, amSI_2]
    exact hS.a0 k hk
  · simp (disch := omega) only [amU_at, amU_ne, amU_nj, amU_neR, up_ne, up_at, amSI_2]
theorem tX6_draws_d {t : Nat} {b0 : Int32} {h : amH} {K : Option Value → amH → Prop} : tX6_draws [.ref t, .int b0] h K = ∃ (S : HS) (b : Nat), t = (124 : Nat) ∧ mdAt h ∧ RwIs h.2.1 125 0 S ∧ S.draw < 2147483648 ∧ b0 = nI b ∧ 1 ≤ b ∧ b < 2147483648 ∧ ∀ m', RwIs m' 125 0 (S.setD (lcgN S.draw)) → (∀ i : Nat, i ≠ 125 → m' i = h.2.1 i) → K (some (.int (nI (lcgN S.draw / b)))) (amSI h m') := rfl
def tX6_does : amT := fun as h K => match as with
  | [.ref t, .int x0, .int y0] => ∃ (S : HS) (x y : Nat), t = (124 : Nat) ∧ x0 = nI x ∧ y0 = nI y ∧ x < 2147483648 ∧ y < 1048576 ∧ mdSys h S ∧ ∀ m' c, RwIs m' 125 0 (S.hap x y) → maFr h.2.1 m' → K (some (.int c)) (amSI h m')
  | _ => False
/-! ReadingStagesModel.does(II)I -/
def kX6_does : Nat → Bool := fun pc => pc == 69 || pc == 76 || pc == 84 || pc == 92 || pc == 106 || pc == 118
def rX6_does : List (Nat × amS) := [(66, 2, 0, 0, (amRecv 6 tX6_adds)), (73, 3, 0, 0, (amRecv 6 tX6_changes)), (81, 3, 0, 0, (amRecv 6 tX6_puts)), (89, 3, 0, 0, (amRecv 6 tX6_shifts)), (103, 3, 0, 0, (amRecv 6 tX6_tells)), (115, 3, 0, 0, (amRecv 6 tX6_tells))]
def eX6_does (ret : Option Value → amH → Nat → Nat → Prop) (F : amX) : Nat → amX := amWp cX6_does kX6_does (amLk rX6_does) (some .int) 0 0 ret F
def sX6_does (ret : Option Value → amH → Nat → Nat → Prop) (F : amX) : Nat → amX := amWs cX6_does kX6_does (amLk rX6_does) (some .int) 0 0 ret F
theorem wX6_does_0 {ret F n h} {v0 v2 v3 v4 st x} : eX6_does ret F (n + 1) 0 [v0, .int x, v2, v3, v4] (st) h 0 0 = (eX6_does ret F n 1 [v0, .int x, v2, v3, v4] (.int x :: st) h 0 0) := (amWp_dec rfl dX6_does_0 rfl).trans rfl
theorem uX6_does_0 {ret F n h} {v0 v2 v3 v4 st x} : sX6_does ret F n 0 [v0, .int x, v2, v3, v4] (st) h 0 0 = (eX6_does ret F n 1 [v0, .int x, v2, v3, v4] (.int x :: st) h 0 0) := (amWs_dec dX6_does_0 rfl).trans rfl
theorem wX6_does_1 {ret F n h} {v0 v1 v2 v3 v4 st} : eX6_does ret F (n + 1) 1 [v0, v1, v2, v3, v4] (st) h 0 0 = (eX6_does ret F n 3 [v0, v1, v2, v3, v4] (.int (nI 8) :: st) h 0 0) := (amWp_dec rfl dX6_does_1 rfl).trans rfl
theorem wX6_does_3 {ret F n h} {v0 v1 v2 v3 v4 st y x} : eX6_does ret F (n + 1) 3 [v0, v1, v2, v3, v4] (.int y :: .int x :: st) h 0 0 = (¬ y = 0 ∧ eX6_does ret F n 4 [v0, v1, v2, v3, v4] (.int (x / y) :: st) h 0 0) := (amWp_dec rfl dX6_does_3 rfl).trans rfl
theorem wX6_does_4 {ret F n h} {v0 v1 v2 v3 v4 st} : eX6_does ret F (n + 1) 4 [v0, v1, v2, v3, v4] (st) h 0 0 = (eX6_does ret F n 6 [v0, v1, v2, v3, v4] (.int (nI 7) :: st) h 0 0) := (amWp_dec rfl dX6_does_4 rfl).trans rfl
theorem wX6_does_6 {ret F n h} {v0 v1 v2 v3 v4 st y x} : eX6_does ret F (n + 1) 6 [v0, v1, v2, v3, v4] (.int y :: .int x :: st) h 0 0 = (¬ y = 0 ∧ eX6_does ret F n 7 [v0, v1, v2, v3, v4] (.int (x - x / y * y) :: st) h 0 0) := (amWp_dec rfl dX6_does_6 rfl).trans rfl
theorem wX6_does_7 {ret F n h} {v0 v1 v2 v3 v4 st x} : eX6_does ret F (n + 1) 7 [v0, v1, v2, v3, v4] (.int x :: st) h 0 0 = (eX6_does ret F n 8 [v0, v1, amClr v2, .int x, v4] (st) h 0 0) := (amWp_dec rfl dX6_does_7 rfl).trans (amTrue (Nat.le_of_ble_eq_true rfl))
theorem wX6_does_8 {ret F n h} {v0 v2 v3 v4 st x} : eX6_does ret F (n + 1) 8 [v0, .int x, v2, v3, v4] (st) h 0 0 = (eX6_does ret F n 9 [v0, .int x, v2, v3, v4] (.int x :: st) h 0 0) := (amWp_dec rfl dX6_does_8 rfl).trans rfl
theorem wX6_does_9 {ret F n h} {v0 v1 v2 v3 v4 st} : eX6_does ret F (n + 1) 9 [v0, v1, v2, v3, v4] (st) h 0 0 = (eX6_does ret F n 11 [v0, v1, v2, v3, v4] (.int (nI 64) :: st) h 0 0) := (amWp_dec rfl dX6_does_9 rfl).trans rfl
theorem wX6_does_11 {ret F n h} {v0 v1 v2 v3 v4 st y x} : eX6_does ret F (n + 1) 11 [v0, v1, v2, v3, v4] (.int y :: .int x :: st) h 0 0 = (¬ y = 0 ∧ eX6_does ret F n 12 [v0, v1, v2, v3, v4] (.int (x / y) :: st) h 0 0) := (amWp_dec rfl dX6_does_11 rfl).trans rfl
theorem wX6_does_12 {ret F n h} {v0 v1 v2 v3 v4 st} : eX6_does ret F (n + 1) 12 [v0, v1, v2, v3, v4] (st) h 0 0 = (eX6_does ret F n 14 [v0, v1, v2, v3, v4] (.int (nI 7) :: st) h 0 0) := (amWp_dec rfl dX6_does_12 rfl).trans rfl
theorem wX6_does_14 {ret F n h} {v0 v1 v2 v3 v4 st y x} : eX6_does ret F (n + 1) 14 [v0, v1, v2, v3, v4] (.int y :: .int x :: st) h 0 0 = (¬ y = 0 ∧ eX6_does ret F n 15 [v0, v1, v2, v3, v4] (.int (x - x / y * y) :: st) h 0 0) := (amWp_dec rfl dX6_does_14 rfl).trans rfl
theorem wX6_does_15 {ret F n h} {v0 v1 v2 v3 v4 st x} : eX6_does ret F (n + 1) 15 [v0, v1, v2, v3, v4] (.int x :: st) h 0 0 = (eX6_does ret F n 17 [v0, v1, v2, amClr v3, .int x] (st) h 0 0) := (amWp_dec rfl dX6_does_15 rfl).trans (amTrue (Nat.le_of_ble_eq_true rfl))
theorem wX6_does_17 {ret F n h} {v0 v2 v3 v4 st x} : eX6_does ret F (n + 1) 17 [v0, .int x, v2, v3, v4] (st) h 0 0 = (eX6_does ret F n 18 [v0, .int x, v2, v3, v4] (.int x :: st) h 0 0) := (amWp_dec rfl dX6_does_17 rfl).trans rfl
theorem wX6_does_18 {ret F n h} {v0 v1 v2 v3 v4 st} : eX6_does ret F (n + 1) 18 [v0, v1, v2, v3, v4] (st) h 0 0 = (eX6_does ret F n 20 [v0, v1, v2, v3, v4] (.int (nI 8) :: st) h 0 0) := (amWp_dec rfl dX6_does_18 rfl).trans rfl
theorem wX6_does_20 {ret F n h} {v0 v1 v2 v3 v4 st y x} : eX6_does ret F (n + 1) 20 [v0, v1, v2, v3, v4] (.int y :: .int x :: st) h 0 0 = (¬ y = 0 ∧ eX6_does ret F n 21 [v0, v1, v2, v3, v4] (.int (x - x / y * y) :: st) h 0 0) := (amWp_dec rfl dX6_does_20 rfl).trans rfl
theorem wX6_does_21 {ret F n h} {v0 v1 v2 v3 v4 st x} : eX6_does ret F (n + 1) 21 [v0, v1, v2, v3, v4] (.int x :: st) h 0 0 = ((x = nI 0 → eX6_does ret F n 64 [v0, v1, v2, v3, v4] (st) h 0 0) ∧ (¬ x = nI 0 → (x = nI 1 → eX6_does ret F n 64 [v0, v1, v2, v3, v4] (st) h 0 0) ∧ (¬ x = nI 1 → (x = nI 2 → eX6_does ret F n 70 [v0, v1, v2, v3, v4] (st) h 0 0) ∧ (¬ x = nI 2 → (x = nI 3 → eX6_does ret F n 77 [v0, v1, v2, v3, v4] (st) h 0 0) ∧ (¬ x = nI 3 → (x = nI 4 → eX6_does ret F n 85 [v0, v1, v2, v3, v4] (st) h 0 0) ∧ (¬ x = nI 4 → (x = nI 5 → eX6_does ret F n 85 [v0, v1, v2, v3, v4] (st) h 0 0) ∧ (¬ x = nI 5 → (x = nI 6 → eX6_does ret F n 93 [v0, v1, v2, v3, v4] (st) h 0 0) ∧ (¬ x = nI 6 → eX6_does ret F n 107 [v0, v1, v2, v3, v4] (st) h 0 0)))))))) := (amWp_dec rfl dX6_does_21 rfl).trans (amS2 (by decide +kernel) (by decide +kernel))
theorem wX6_does_64 {ret F n h} {v0 v1 v2 v3 v4 st} : eX6_does ret F (n + 1) 64 [v0, v1, v2, v3, v4] (st) h 0 0 = (amIsR v0 ∧ eX6_does ret F n 65 [v0, v1, v2, v3, v4] (v0 :: st) h 0 0) := (amWp_dec rfl dX6_does_64 rfl).trans rfl
theorem wX6_does_65 {ret F n h} {v0 v1 v3 v4 st x} : eX6_does ret F (n + 1) 65 [v0, v1, .int x, v3, v4] (st) h 0 0 = (eX6_does ret F n 66 [v0, v1, .int x, v3, v4] (.int x :: st) h 0 0) := (amWp_dec rfl dX6_does_65 rfl).trans rfl
theorem wX6_does_66 {ret F n h} {v0 v1 v2 v3 v4 x1 x0} : eX6_does ret F (n + 1) 66 [v0, v1, v2, v3, v4] (.int x1 :: .ref x0 :: []) h 0 0 = (h.1 x0 = (0, 6) ∧ tX6_adds [.ref x0, .int x1] h (fun v h => eX6_does ret F n 69 [v0, v1, v2, v3, v4] (v.toList ++ ([])) h 0 0)) := (amWp_dec rfl dX6_does_66 rfl).trans (amS4 (Nat.le_of_ble_eq_true rfl) (Nat.le_of_ble_eq_true rfl) (Nat.le_of_ble_eq_true rfl) (Nat.le_of_ble_eq_true rfl))
theorem wX6_does_69 {ret F n ls st h k z} : eX6_does ret F (n + 1) 69 ls st h k z = F 69 ls st h k z := amWp_cut rfl
theorem uX6_does_69 {ret F n h} {v0 v1 v2 v3 v4 x} : sX6_does ret F n 69 [v0, v1, v2, v3, v4] ([.int x]) h 0 0 = (ret (some (.int x)) h 0 0) := (amWs_dec dX6_does_69 rfl).trans (amTrue ⟨_, rfl, rfl⟩)
theorem wX6_does_70 {ret F n h} {v0 v1 v2 v3 v4 st} : eX6_does ret F (n + 1) 70 [v0, v1, v2, v3, v4] (st) h 0 0 = (amIsR v0 ∧ eX6_does ret F n 71 [v0, v1, v2, v3, v4] (v0 :: st) h 0 0) := (amWp_dec rfl dX6_does_70 rfl).trans rfl
theorem wX6_does_71 {ret F n h} {v0 v1 v2 v4 st x} : eX6_does ret F (n + 1) 71 [v0, v1, v2, .int x, v4] (st) h 0 0 = (eX6_does ret F n 72 [v0, v1, v2, .int x, v4] (.int x :: st) h 0 0) := (amWp_dec rfl dX6_does_71 rfl).trans rfl
theorem wX6_does_72 {ret F n h} {v0 v1 v3 v4 st x} : eX6_does ret F (n + 1) 72 [v0, v1, .int x, v3, v4] (st) h 0 0 = (eX6_does ret F n 73 [v0, v1, .int x, v3, v4] (.int x :: st) h 0 0) := (amWp_dec rfl dX6_does_72 rfl).trans rfl
theorem wX6_does_73 {ret F n h} {v0 v1 v2 v3 v4 x2 x1 x0} : eX6_does ret F (n + 1) 73 [v0, v1, v2, v3, v4] (.int x2 :: .int x1 :: .ref x0 :: []) h 0 0 = (h.1 x0 = (0, 6) ∧ tX6_changes [.ref x0, .int x1, .int x2] h (fun v h => eX6_does ret F n 76 [v0, v1, v2, v3, v4] (v.toList ++ ([])) h 0 0)) := (amWp_dec rfl dX6_does_73 rfl).trans (amS4 (Nat.le_of_ble_eq_true rfl) (Nat.le_of_ble_eq_true rfl) (Nat.le_of_ble_eq_true rfl) (Nat.le_of_ble_eq_true rfl))
theorem wX6_does_76 {ret F n ls st h k z} : eX6_does ret F (n + 1) 76 ls st h k z = F 76 ls st h k z := amWp_cut rfl
theorem uX6_does_76 {ret F n h} {v0 v1 v2 v3 v4 x} : sX6_does ret F n 76 [v0, v1, v2, v3, v4] ([.int x]) h 0 0 = (ret (some (.int x)) h 0 0) := (amWs_dec dX6_does_76 rfl).trans (amTrue ⟨_, rfl, rfl⟩)
theorem wX6_does_77 {ret F n h} {v0 v1 v2 v3 v4 st} : eX6_does ret F (n + 1) 77 [v0, v1, v2, v3, v4] (st) h 0 0 = (amIsR v0 ∧ eX6_does ret F n 78 [v0, v1, v2, v3, v4] (v0 :: st) h 0 0) := (amWp_dec rfl dX6_does_77 rfl).trans rfl
theorem wX6_does_78 {ret F n h} {v0 v1 v2 v4 st x} : eX6_does ret F (n + 1) 78 [v0, v1, v2, .int x, v4] (st) h 0 0 = (eX6_does ret F n 79 [v0, v1, v2, .int x, v4] (.int x :: st) h 0 0) := (amWp_dec rfl dX6_does_78 rfl).trans rfl
theorem wX6_does_79 {ret F n h} {v0 v1 v2 v3 st x} : eX6_does ret F (n + 1) 79 [v0, v1, v2, v3, .int x] (st) h 0 0 = (eX6_does ret F n 81 [v0, v1, v2, v3, .int x] (.int x :: st) h 0 0) := (amWp_dec rfl dX6_does_79 rfl).trans rfl
theorem wX6_does_81 {ret F n h} {v0 v1 v2 v3 v4 x2 x1 x0} : eX6_does ret F (n + 1) 81 [v0, v1, v2, v3, v4] (.int x2 :: .int x1 :: .ref x0 :: []) h 0 0 = (h.1 x0 = (0, 6) ∧ tX6_puts [.ref x0, .int x1, .int x2] h (fun v h => eX6_does ret F n 84 [v0, v1, v2, v3, v4] (v.toList ++ ([])) h 0 0)) := (amWp_dec rfl dX6_does_81 rfl).trans (amS4 (Nat.le_of_ble_eq_true rfl) (Nat.le_of_ble_eq_true rfl) (Nat.le_of_ble_eq_true rfl) (Nat.le_of_ble_eq_true rfl))
theorem wX6_does_84 {ret F n ls st h k z} : eX6_does ret F (n + 1) 84 ls st h k z = F 84 ls st h k z := amWp_cut rfl
theorem uX6_does_84 {ret F n h} {v0 v1 v2 v3 v4 x} : sX6_does ret F n 84 [v0, v1, v2, v3, v4] ([.int x]) h 0 0 = (ret (some (.int x)) h 0 0) := (amWs_dec dX6_does_84 rfl).trans (amTrue ⟨_, rfl, rfl⟩)
theorem wX6_does_85 {ret F n h} {v0 v1 v2 v3 v4 st} : eX6_does ret F (n + 1) 85 [v0, v1, v2, v3, v4] (st) h 0 0 = (amIsR v0 ∧ eX6_does ret F n 86 [v0, v1, v2, v3, v4] (v0 :: st) h 0 0) := (amWp_dec rfl dX6_does_85 rfl).trans rfl
theorem wX6_does_86 {ret F n h} {v0 v1 v2 v4 st x} : eX6_does ret F (n + 1) 86 [v0, v1, v2, .int x, v4] (st) h 0 0 = (eX6_does ret F n 87 [v0, v1, v2, .int x, v4] (.int x :: st) h 0 0) := (amWp_dec rfl dX6_does_86 rfl).trans rfl
theorem wX6_does_87 {ret F n h} {v0 v1 v2 v3 st x} : eX6_does ret F (n + 1) 87 [v0, v1, v2, v3, .int x] (st) h 0 0 = (eX6_does ret F n 89 [v0, v1, v2, v3, .int x] (.int x :: st) h 0 0) := (amWp_dec rfl dX6_does_87 rfl).trans rfl
theorem wX6_does_89 {ret F n h} {v0 v1 v2 v3 v4 x2 x1 x0} : eX6_does ret F (n + 1) 89 [v0, v1, v2, v3, v4] (.int x2 :: .int x1 :: .ref x0 :: []) h 0 0 = (h.1 x0 = (0, 6) ∧ tX6_shifts [.ref x0, .int x1, .int x2] h (fun v h => eX6_does ret F n 92 [v0, v1, v2, v3, v4] (v.toList ++ ([])) h 0 0)) := (amWp_dec rfl dX6_does_89 rfl).trans (amS4 (Nat.le_of_ble_eq_true rfl) (Nat.le_of_ble_eq_true rfl) (Nat.le_of_ble_eq_true rfl) (Nat.le_of_ble_eq_true rfl))
theorem wX6_does_92 {ret F n ls st h k z} : eX6_does ret F (n + 1) 92 ls st h k z = F 92 ls st h k z := amWp_cut rfl
theorem uX6_does_92 {ret F n h} {v0 v1 v2 v3 v4 x} : sX6_does ret F n 92 [v0, v1, v2, v3, v4] ([.int x]) h 0 0 = (ret (some (.int x)) h 0 0) := (amWs_dec dX6_does_92 rfl).trans (amTrue ⟨_, rfl, rfl⟩)
theorem wX6_does_93 {ret F n h} {v0 v1 v2 v3 v4 st} : eX6_does ret F (n + 1) 93 [v0, v1, v2, v3, v4] (st) h 0 0 = (amIsR v0 ∧ eX6_does ret F n 94 [v0, v1, v2, v3, v4] (v0 :: st) h 0 0) := (amWp_dec rfl dX6_does_93 rfl).trans rfl
theorem wX6_does_94 {ret F n h} {v0 v1 v2 v3 v4 st} : eX6_does ret F (n + 1) 94 [v0, v1, v2, v3, v4] (st) h 0 0 = (eX6_does ret F n 95 [v0, v1, v2, v3, v4] (.int (nI 0) :: st) h 0 0) := (amWp_dec rfl dX6_does_94 rfl).trans rfl
theorem wX6_does_95 {ret F n h} {v0 v2 v3 v4 st x} : eX6_does ret F (n + 1) 95 [v0, .int x, v2, v3, v4] (st) h 0 0 = (eX6_does ret F n 96 [v0, .int x, v2, v3, v4] (.int x :: st) h 0 0) := (amWp_dec rfl dX6_does_95 rfl).trans rfl
theorem wX6_does_96 {ret F n h} {v0 v1 v2 v3 v4 st} : eX6_does ret F (n + 1) 96 [v0, v1, v2, v3, v4] (st) h 0 0 = (eX6_does ret F n 98 [v0, v1, v2, v3, v4] (.int (nI 8) :: st) h 0 0) := (amWp_dec rfl dX6_does_96 rfl).trans rfl
theorem wX6_does_98 {ret F n h} {v0 v1 v2 v3 v4 st y x} : eX6_does ret F (n + 1) 98 [v0, v1, v2, v3, v4] (.int y :: .int x :: st) h 0 0 = (¬ y = 0 ∧ eX6_does ret F n 99 [v0, v1, v2, v3, v4] (.int (x / y) :: st) h 0 0) := (amWp_dec rfl dX6_does_98 rfl).trans rfl
theorem wX6_does_99 {ret F n h} {v0 v1 v2 v3 v4 st} : eX6_does ret F (n + 1) 99 [v0, v1, v2, v3, v4] (st) h 0 0 = (eX6_does ret F n 100 [v0, v1, v2, v3, v4] (.int (nI 4) :: st) h 0 0) := (amWp_dec rfl dX6_does_99 rfl).trans rfl
theorem wX6_does_100 {ret F n h} {v0 v1 v2 v3 v4 st y x} : eX6_does ret F (n + 1) 100 [v0, v1, v2, v3, v4] (.int y :: .int x :: st) h 0 0 = (¬ y = 0 ∧ eX6_does ret F n 101 [v0, v1, v2, v3, v4] (.int (x - x / y * y) :: st) h 0 0) := (amWp_dec rfl dX6_does_100 rfl).trans rfl
theorem wX6_does_101 {ret F n h} {v0 v1 v2 v3 v4 st} : eX6_does ret F (n + 1) 101 [v0, v1, v2, v3, v4] (st) h 0 0 = (eX6_does ret F n 102 [v0, v1, v2, v3, v4] (.int (nI 1) :: st) h 0 0) := (amWp_dec rfl dX6_does_101 rfl).trans rfl
theorem wX6_does_102 {ret F n h} {v0 v1 v2 v3 v4 st y x} : eX6_does ret F (n + 1) 102 [v0, v1, v2, v3, v4] (.int y :: .int x :: st) h 0 0 = (eX6_does ret F n 103 [v0, v1, v2, v3, v4] (.int (x + y) :: st) h 0 0) := (amWp_dec rfl dX6_does_102 rfl).trans rfl
theorem wX6_does_103 {ret F n h} {v0 v1 v2 v3 v4 x2 x1 x0} : eX6_does ret F (n + 1) 103 [v0, v1, v2, v3, v4] (.int x2 :: .int x1 :: .ref x0 :: []) h 0 0 = (h.1 x0 = (0, 6) ∧ tX6_tells [.ref x0, .int x1, .int x2] h (fun v h => eX6_does ret F n 106 [v0, v1, v2, v3, v4] (v.toList ++ ([])) h 0 0)) := (amWp_dec rfl dX6_does_103 rfl).trans (amS4 (Nat.le_of_ble_eq_true rfl) (Nat.le_of_ble_eq_true rfl) (Nat.le_of_ble_eq_true rfl) (Nat.le_of_ble_eq_true rfl))
theorem wX6_does_106 {ret F n ls st h k z} : eX6_does ret F (n + 1) 106 ls st h k z = F 106 ls st h k z := amWp_cut rfl
theorem uX6_does_106 {ret F n h} {v0 v1 v2 v3 v4 x} : sX6_does ret F n 106 [v0, v1, v2, v3, v4] ([.int x]) h 0 0 = (ret (some (.int x)) h 0 0) := (amWs_dec dX6_does_106 rfl).trans (amTrue ⟨_, rfl, rfl⟩)
theorem wX6_does_107 {ret F n h} {v0 v1 v2 v3 v4 st} : eX6_does ret F (n + 1) 107 [v0, v1, v2, v3, v4] (st) h 0 0 = (amIsR v0 ∧ eX6_does ret F n 108 [v0, v1, v2, v3, v4] (v0 :: st) h 0 0) := (amWp_dec rfl dX6_does_107 rfl).trans rfl
theorem wX6_does_108 {ret F n h} {v0 v1 v2 v3 v4 st} : eX6_does ret F (n + 1) 108 [v0, v1, v2, v3, v4] (st) h 0 0 = (eX6_does ret F n 109 [v0, v1, v2, v3, v4] (.int (nI 2) :: st) h 0 0) := (amWp_dec rfl dX6_does_108 rfl).trans rfl
theorem wX6_does_109 {ret F n h} {v0 v2 v3 v4 st x} : eX6_does ret F (n + 1) 109 [v0, .int x, v2, v3, v4] (st) h 0 0 = (eX6_does ret F n 110 [v0, .int x, v2, v3, v4] (.int x :: st) h 0 0) := (amWp_dec rfl dX6_does_109 rfl).trans rfl
theorem wX6_does_110 {ret F n h} {v0 v1 v2 v3 v4 st} : eX6_does ret F (n + 1) 110 [v0, v1, v2, v3, v4] (st) h 0 0 = (eX6_does ret F n 112 [v0, v1, v2, v3, v4] (.int (nI 8) :: st) h 0 0) := (amWp_dec rfl dX6_does_110 rfl).trans rfl
theorem wX6_does_112 {ret F n h} {v0 v1 v2 v3 v4 st y x} : eX6_does ret F (n + 1) 112 [v0, v1, v2, v3, v4] (.int y :: .int x :: st) h 0 0 = (¬ y = 0 ∧ eX6_does ret F n 113 [v0, v1, v2, v3, v4] (.int (x / y) :: st) h 0 0) := (amWp_dec rfl dX6_does_112 rfl).trans rfl
theorem wX6_does_113 {ret F n h} {v0 v1 v2 v3 v4 st} : eX6_does ret F (n + 1) 113 [v0, v1, v2, v3, v4] (st) h 0 0 = (eX6_does ret F n 114 [v0, v1, v2, v3, v4] (.int (nI 3) :: st) h 0 0) := (amWp_dec rfl dX6_does_113 rfl).trans rfl
theorem wX6_does_114 {ret F n h} {v0 v1 v2 v3 v4 st y x} : eX6_does ret F (n + 1) 114 [v0, v1, v2, v3, v4] (.int y :: .int x :: st) h 0 0 = (¬ y = 0 ∧ eX6_does ret F n 115 [v0, v1, v2, v3, v4] (.int (x - x / y * y) :: st) h 0 0) := (amWp_dec rfl dX6_does_114 rfl).trans rfl
theorem wX6_does_115 {ret F n h} {v0 v1 v2 v3 v4 x2 x1 x0} : eX6_does ret F (n + 1) 115 [v0, v1, v2, v3, v4] (.int x2 :: .int x1 :: .ref x0 :: []) h 0 0 = (h.1 x0 = (0, 6) ∧ tX6_tells [.ref x0, .int x1, .int x2] h (fun v h => eX6_does ret F n 118 [v0, v1, v2, v3, v4] (v.toList ++ ([])) h 0 0)) := (amWp_dec rfl dX6_does_115 rfl).trans (amS4 (Nat.le_of_ble_eq_true rfl) (Nat.le_of_ble_eq_true rfl) (Nat.le_of_ble_eq_true rfl) (Nat.le_of_ble_eq_true rfl))
theorem wX6_does_118 {ret F n ls st h k z} : eX6_does ret F (n + 1) 118 ls st h k z = F 118 ls st h k z := amWp_cut rfl
theorem uX6_does_118 {ret F n h} {v0 v1 v2 v3 v4 x} : sX6_does ret F n 118 [v0, v1, v2, v3, v4] ([.int x]) h 0 0 = (ret (some (.int x)) h 0 0) := (amWs_dec dX6_does_118 rfl).trans (amTrue ⟨_, rfl, rfl⟩)
theorem evX6_does (l : Launch) (G : amG) : ∀ pc S i sz, amLk rX6_does pc = some S → decode cX6_does pc = .ok (i, sz) → amSiteP pc G l yX6_does.cls yX6_does.name yX6_does.desc (amRm 4 0 0) i sz S.1 S.2.1 S.2.2.1 S.2.2.2 := amLk_ok (by
  refine List.forall_mem_cons.mpr ⟨⟨_, _, dX6_does_66, amSite.P (amSiteV (C := RX6) (metX6_adds l G) rfl (by decide) (by decide) (lw_V q1513 q1515 qs61 q94 q1516) ⟨_, rfl, rfl⟩ ⟨rfl, by decide +kernel, by decide +kernel, by decide +kernel⟩)⟩, ?_⟩
  refine List.forall_mem_cons.mpr ⟨⟨_, _, dX6_does_73, amSite.P (amSiteV (C := RX6) (metX6_changes l G) rfl (by decide) (by decide) (lw_V q1533 q1535 qs64 q94 q1536) ⟨_, rfl, rfl⟩ ⟨rfl, by decide +kernel, by decide +kernel, by decide +kernel⟩)⟩, ?_⟩
  refine List.forall_mem_cons.mpr ⟨⟨_, _, dX6_does_81, amSite.P (amSiteV (C := RX6) (metX6_puts l G) rfl (by decide) (by decide) (lw_V q1552 q1554 qs66 q94 q1555) ⟨_, rfl, rfl⟩ ⟨rfl, by decide +kernel, by decide +kernel, by decide +kernel⟩)⟩, ?_⟩
  refine List.forall_mem_cons.mpr ⟨⟨_, _, dX6_does_89, amSite.P (amSiteV (C := RX6) (metX6_shifts l G) rfl (by decide) (by decide) (lw_V q1583 q1585 qs70 q94 q1586) ⟨_, rfl, rfl⟩ ⟨rfl, by decide +kernel, by decide +kernel, by decide +kernel⟩)⟩, ?_⟩
  refine List.forall_mem_cons.mpr ⟨⟨_, _, dX6_does_103, amSite.P (amSiteV (C := RX6) (metX6_tells l G) rfl (by decide) (by decide) (lw_V q1572 q1574 qs69 q94 q1575) ⟨_, rfl, rfl⟩ ⟨rfl, by decide +kernel, by decide +kernel, by decide +kernel⟩)⟩, ?_⟩
  refine List.forall_mem_cons.mpr ⟨⟨_, _, dX6_does_115, amSite.P (amSiteV (C := RX6) (metX6_tells l G) rfl (by decide) (by decide) (lw_V q1572 q1574 qs69 q94 q1575) ⟨_, rfl, rfl⟩ ⟨rfl, by decide +kernel, by decide +kernel, by decide +kernel⟩)⟩, ?_⟩
  exact fun _ h => absurd h List.not_mem_nil)
theorem goX6_does {ret F} (hF : amCld cX6_does kX6_does (amLk rX6_does) (some .int) 0 0 ret F) (n : Nat) {pc ls st h k z} (q : sX6_does ret F n pc ls st h k z) : F pc ls st h k z := hF.1 n pc ls st h k z q
theorem metX6_does (l : Launch) (G : amG) : amMet l G yX6_does (ws_ yX6_does cX6_does 5 (some .int)) 4 0 0 tX6_does := by
  refine amMet_of (cut := kX6_does) (by decide +kernel) (evX6_does l G) ?_
  intro as h K hT
  match as, hT with
  | [.ref t, .int x0, .int y0], ⟨S, x, y, e1, e2, e3, hx, hy, hA, hK⟩ =>
  refine ⟨Nat.le_of_ble_eq_true rfl, fun F hF => ?_⟩
  show F 0 [.ref t, .int x0, .int y0, .retAddr 0, .retAddr 0] [] h 0 0
  obtain ⟨t, rfl⟩ : ∃ i : Nat, i = t := ⟨_, rfl⟩
  subst e1; subst e2; subst e3
  have hR := hA.1
  have hO := hA.2.2
  have d8 : nI x / nI 8 = nI (x / 8) := pk_div (by omega) (by decide) (by decide)
  have d64 : nI x / nI 64 = nI (x / 64) := pk_div (by omega) (by decide) (by decide)
  have r7 : nI (x / 8) - nI (x / 8) / nI 7 * nI 7 = nI (x / 8 % 7) := pk_rem (by omega) (by decide) (by decide)
  have r74 : nI (x / 64) - nI (x / 64) / nI 7 * nI 7 = nI (x / 64 % 7) := pk_rem (by omega) (by decide) (by decide)
  have r8 : nI x - nI x / nI 8 * nI 8 = nI (x % 8) := pk_rem (by omega) (by decide) (by decide)
  rw [d8] at r8
  have r4 : nI (x / 8) - nI (x / 8) / nI 4 * nI 4 = nI (x / 8 % 4) := pk_rem (by omega) (by decide) (by decide)
  have r3 : nI (x / 8) - nI (x / 8) / nI 3 * nI 3 = nI (x / 8 % 3) := pk_rem (by omega) (by decide) (by decide)
  have m8 : x % 8 < 8 := Nat.mod_lt _ (by decide)
  have a7 : x / 8 % 7 < 7 := Nat.mod_lt _ (by decide)
  have b7 : x / 64 % 7 < 7 := Nat.mod_lt _ (by decide)
  have a4 : x / 8 % 4 < 4 := Nat.mod_lt _ (by decide)
  have a3 : x / 8 % 3 < 3 := Nat.mod_lt _ (by decide)
  have nz8 : (nI 8 = 0) = False := by decide
  have nz7 : (nI 7 = 0) = False := by decide
  have nz64 : (nI 64 = 0) = False := by decide
  have nz4 : (nI 4 = 0) = False := by decide
  have nz3 : (nI 3 = 0) = False := by decide
  have e0 : (x % 8 = 0 ∨ x % 8 = 1) → S.hap x y = S.hap0 y := fun z => by
    rw [HS.hap, if_neg (by omega), if_neg (by omega), if_neg (by omega), if_neg (by omega), if_neg (by omega), if_neg (by omega)]
  have g0 : (x % 8 = 0 ∨ x % 8 = 1) → RwIs h.2.1 125 0 S → True := fun _ _ => trivial
  refine goX6_does hF 60 ?_
  simp (disch := omega) only [wX6_does_0, uX6_does_0, wX6_does_1, wX6_does_3, wX6_does_4, wX6_does_6, wX6_does_7, wX6_does_8, wX6_does_9, wX6_does_11, wX6_does_12, wX6_does_14, wX6_does_15, wX6_does_17, wX6_does_18, wX6_does_20, wX6_does_21, wX6_does_64, wX6_does_65, wX6_does_66, wX6_does_69, uX6_does_69, wX6_does_70, wX6_does_71, wX6_does_72, wX6_does_73, wX6_does_76, uX6_does_76, wX6_does_77, wX6_does_78, wX6_does_79, wX6_does_81, wX6_does_84, uX6_does_84, wX6_does_85, wX6_does_86, wX6_does_87, wX6_does_89, wX6_does_92, uX6_does_92, wX6_does_93, wX6_does_94, wX6_does_95, wX6_does_96, wX6_does_98, wX6_does_99, wX6_does_100, wX6_does_101, wX6_does_102, wX6_does_103, wX6_does_106, uX6_does_106, wX6_does_107, wX6_does_108, wX6_does_109, wX6_does_110, wX6_does_112, wX6_does_113, wX6_does_114, wX6_does_115, wX6_does_118, uX6_does_118, amSI_1, amSI_2, amSI_3, amSI_s, amU_at, amIsR_ref, amIsR_null, amIsR_rf, amRf_some, amRf_none, amClr_int, amClr_ref, amClr_null, amClr_long, amClr_ra, amClr_rf, amFit_int, amFit_oref, amFit_aref, amFit_onull, amFit_anull, amOptSome, amOptNone, List.cons_append, List.nil_append, true_and, and_true, true_implies, not_true_eq_false, not_false_eq_true, false_implies, and_self, Nat.add_zero, Nat.zero_add, ne_eq, Prod.mk.injEq, amC01_0, amC01_1, amC01_nb, amNb0, amNb1, amTcpI_d, Nat.reduceLeDiff, Nat.reduceAdd, Nat.reduceSub, Nat.reduceEqDiff, Nat.le_refl, amN0le, hR.s, hR.r, d8, d64, r7, r74, r8, nz8, nz7, nz64, amAdd, amEqI]
  have c0 : (x % 8 = 0 ∨ x % 8 = 1) → tX6_adds [.ref 124, .int (nI y)] h (fun v h_1 => F 69 [.ref 124, .int (nI x), .int (nI y), .int (nI (x / 8 % 7)), .int (nI (x / 64 % 7))] (v.toList ++ []) h_1 0 0) := by
    intro z
    refine ⟨S, rfl, hA, fun m' q1 q2 => ?_⟩
    rw [add_hap hO hy, ← e0 z] at q1
    have key := hK m' (addR S (nI y)).2 q1 q2
    refine goX6_does hF 60 ?_
    simp (disch := omega) only [wX6_does_0, uX6_does_0, wX6_does_1, wX6_does_3, wX6_does_4, wX6_does_6, wX6_does_7, wX6_does_8, wX6_does_9, wX6_does_11, wX6_does_12, wX6_does_14, wX6_does_15, wX6_does_17, wX6_does_18, wX6_does_20, wX6_does_21, wX6_does_64, wX6_does_65, wX6_does_66, wX6_does_69, uX6_does_69, wX6_does_70, wX6_does_71, wX6_does_72, wX6_does_73, wX6_does_76, uX6_does_76, wX6_does_77, wX6_does_78, wX6_does_79, wX6_does_81, wX6_does_84, uX6_does_84, wX6_does_85, wX6_does_86, wX6_does_87, wX6_does_89, wX6_does_92, uX6_does_92, wX6_does_93, wX6_does_94, wX6_does_95, wX6_does_96, wX6_does_98, wX6_does_99, wX6_does_100, wX6_does_101, wX6_does_102, wX6_does_103, wX6_does_106, uX6_does_106, wX6_does_107, wX6_does_108, wX6_does_109, wX6_does_110, wX6_does_112, wX6_does_113, wX6_does_114, wX6_does_115, wX6_does_118, uX6_does_118, amSI_1, amSI_2, amSI_3, amSI_s, amU_at, amIsR_ref, amIsR_null, amIsR_rf, amRf_some, amRf_none, amClr_int, amClr_ref, amClr_null, amClr_long, amClr_ra, amClr_rf, amFit_int, amFit_oref, amFit_aref, amFit_onull, amFit_anull, amOptSome, amOptNone, List.cons_append, List.nil_append, true_and, and_true, true_implies, not_true_eq_false, not_false_eq_true, false_implies, and_self, Nat.add_zero, Nat.zero_add, ne_eq, Prod.mk.injEq, amC01_0, amC01_1, amC01_nb, amNb0, amNb1, amTcpI_d, Nat.reduceLeDiff, Nat.reduceAdd, Nat.reduceSub, Nat.reduceEqDiff, Nat.le_refl, amN0le, hR.s, hR.r]
    exact amRet.of (by decide) (by decide) key
  have c4 : S.hap x y = S.hap4 (x / 8 % 7) (x / 64 % 7) → tX6_shifts [.ref 124, .int (nI (x / 8 % 7)), .int (nI (x / 64 % 7))] h (fun v h_1 => F 92 [.ref 124, .int (nI x), .int (nI y), .int (nI (x / 8 % 7)), .int (nI (x / 64 % 7))] (v.toList ++ []) h_1 0 0) := by
    intro z
    refine ⟨S, rfl, hA, fun m' q1 q2 => ?_⟩
    rw [shf_hap a7 b7, ← z] at q1
    have key := hK m' (shfR S (nI (x / 8 % 7)) (nI (x / 64 % 7))).2 q1 q2
    refine goX6_does hF 60 ?_
    simp (disch := omega) only [wX6_does_0, uX6_does_0, wX6_does_1, wX6_does_3, wX6_does_4, wX6_does_6, wX6_does_7, wX6_does_8, wX6_does_9, wX6_does_11, wX6_does_12, wX6_does_14, wX6_does_15, wX6_does_17, wX6_does_18, wX6_does_20, wX6_does_21, wX6_does_64, wX6_does_65, wX6_does_66, wX6_does_69, uX6_does_69, wX6_does_70, wX6_does_71, wX6_does_72, wX6_does_73, wX6_does_76, uX6_does_76, wX6_does_77, wX6_does_78, wX6_does_79, wX6_does_81, wX6_does_84, uX6_does_84, wX6_does_85, wX6_does_86, wX6_does_87, wX6_does_89, wX6_does_92, uX6_does_92, wX6_does_93, wX6_does_94, wX6_does_95, wX6_does_96, wX6_does_98, wX6_does_99, wX6_does_100, wX6_does_101, wX6_does_102, wX6_does_103, wX6_does_106, uX6_does_106, wX6_does_107, wX6_does_108, wX6_does_109, wX6_does_110, wX6_does_112, wX6_does_113, wX6_does_114, wX6_does_115, wX6_does_118, uX6_does_118, amSI_1, amSI_2, amSI_3, amSI_s, amU_at, amIsR_ref, amIsR_null, amIsR_rf, amRf_some, amRf_none, amClr_int, amClr_ref, amClr_null, amClr_long, amClr_ra, amClr_rf, amFit_int, amFit_oref, amFit_aref, amFit_onull, amFit_anull, amOptSome, amOptNone, List.cons_append, List.nil_append, true_and, and_true, true_implies, not_true_eq_false, not_false_eq_true, false_implies, and_self, Nat.add_zero, Nat.zero_add, ne_eq, Prod.mk.injEq, amC01_0, amC01_1, amC01_nb, amNb0, amNb1, amTcpI_d, Nat.reduceLeDiff, Nat.reduceAdd, Nat.reduceSub, Nat.reduceEqDiff, Nat.le_refl, amN0le, hR.s, hR.r]
    exact amRet.of (by decide) (by decide) key
  refine ⟨fun z0 => c0 (Or.inl z0), fun z0 => ⟨fun z1 => c0 (Or.inr z1), fun z1 => ⟨fun z2 => ?_, fun z2 => ⟨fun z3 => ?_, fun z3 => ⟨fun z4 => c4 ?_, fun z4 => ⟨fun z5 => c4 ?_, fun z5 => ⟨fun z6 => ?_, fun z6 => ?_⟩⟩⟩⟩⟩⟩⟩
  · have e : S.hap x y = S.hap2 (x / 8 % 7) y := by rw [HS.hap, if_pos z2]
    refine ⟨S, rfl, hA, fun m' q1 q2 => ?_⟩
    rw [chg_hap hO a7 hy, ← e] at q1
    have key := hK m' (chgR S (nI (x / 8 % 7)) (nI y)).2 q1 q2
    refine goX6_does hF 60 ?_
    simp (disch := omega) only [wX6_does_0, uX6_does_0, wX6_does_1, wX6_does_3, wX6_does_4, wX6_does_6, wX6_does_7, wX6_does_8, wX6_does_9, wX6_does_11, wX6_does_12, wX6_does_14, wX6_does_15, wX6_does_17, wX6_does_18, wX6_does_20, wX6_does_21, wX6_does_64, wX6_does_65, wX6_does_66, wX6_does_69, uX6_does_69, wX6_does_70, wX6_does_71, wX6_does_72, wX6_does_73, wX6_does_76, uX6_does_76, wX6_does_77, wX6_does_78, wX6_does_79, wX6_does_81, wX6_does_84, uX6_does_84, wX6_does_85, wX6_does_86, wX6_does_87, wX6_does_89, wX6_does_92, uX6_does_92, wX6_does_93, wX6_does_94, wX6_does_95, wX6_does_96, wX6_does_98, wX6_does_99, wX6_does_100, wX6_does_101, wX6_does_102, wX6_does_103, wX6_does_106, uX6_does_106, wX6_does_107, wX6_does_108, wX6_does_109, wX6_does_110, wX6_does_112, wX6_does_113, wX6_does_114, wX6_does_115, wX6_does_118, uX6_does_118, amSI_1, amSI_2, amSI_3, amSI_s, amU_at, amIsR_ref, amIsR_null, amIsR_rf, amRf_some, amRf_none, amClr_int, amClr_ref, amClr_null, amClr_long, amClr_ra, amClr_rf, amFit_int, amFit_oref, amFit_aref, amFit_onull, amFit_anull, amOptSome, amOptNone, List.cons_append, List.nil_append, true_and, and_true, true_implies, not_true_eq_false, not_false_eq_true, false_implies, and_self, Nat.add_zero, Nat.zero_add, ne_eq, Prod.mk.injEq, amC01_0, amC01_1, amC01_nb, amNb0, amNb1, amTcpI_d, Nat.reduceLeDiff, Nat.reduceAdd, Nat.reduceSub, Nat.reduceEqDiff, Nat.le_refl, amN0le, hR.s, hR.r]
    exact amRet.of (by decide) (by decide) key
  · have e : S.hap x y = S.hap3 (x / 8 % 7) (x / 64 % 7) := by rw [HS.hap, if_neg z2, if_pos z3]
    refine ⟨S, rfl, hA, fun m' q1 q2 => ?_⟩
    rw [put_hap hO a7 b7, ← e] at q1
    have key := hK m' (putR S (nI (x / 8 % 7)) (nI (x / 64 % 7))).2 q1 q2
    refine goX6_does hF 60 ?_
    simp (disch := omega) only [wX6_does_0, uX6_does_0, wX6_does_1, wX6_does_3, wX6_does_4, wX6_does_6, wX6_does_7, wX6_does_8, wX6_does_9, wX6_does_11, wX6_does_12, wX6_does_14, wX6_does_15, wX6_does_17, wX6_does_18, wX6_does_20, wX6_does_21, wX6_does_64, wX6_does_65, wX6_does_66, wX6_does_69, uX6_does_69, wX6_does_70, wX6_does_71, wX6_does_72, wX6_does_73, wX6_does_76, uX6_does_76, wX6_does_77, wX6_does_78, wX6_does_79, wX6_does_81, wX6_does_84, uX6_does_84, wX6_does_85, wX6_does_86, wX6_does_87, wX6_does_89, wX6_does_92, uX6_does_92, wX6_does_93, wX6_does_94, wX6_does_95, wX6_does_96, wX6_does_98, wX6_does_99, wX6_does_100, wX6_does_101, wX6_does_102, wX6_does_103, wX6_does_106, uX6_does_106, wX6_does_107, wX6_does_108, wX6_does_109, wX6_does_110, wX6_does_112, wX6_does_113, wX6_does_114, wX6_does_115, wX6_does_118, uX6_does_118, amSI_1, amSI_2, amSI_3, amSI_s, amU_at, amIsR_ref, amIsR_null, amIsR_rf, amRf_some, amRf_none, amClr_int, amClr_ref, amClr_null, amClr_long, amClr_ra, amClr_rf, amFit_int, amFit_oref, amFit_aref, amFit_onull, amFit_anull, amOptSome, amOptNone, List.cons_append, List.nil_append, true_and, and_true, true_implies, not_true_eq_false, not_false_eq_true, false_implies, and_self, Nat.add_zero, Nat.zero_add, ne_eq, Prod.mk.injEq, amC01_0, amC01_1, amC01_nb, amNb0, amNb1, amTcpI_d, Nat.reduceLeDiff, Nat.reduceAdd, Nat.reduceSub, Nat.reduceEqDiff, Nat.le_refl, amN0le, hR.s, hR.r]
    exact amRet.of (by decide) (by decide) key
  · rw [HS.hap, if_neg z2, if_neg z3, if_pos z4]
  · rw [HS.hap, if_neg z2, if_neg z3, if_neg z4, if_pos z5]
  · have e : S.hap x y = S.setT 0 (x / 8 % 4 + 1) := by rw [HS.hap, if_neg z2, if_neg z3, if_neg z4, if_neg z5, if_pos z6]
    simp (disch := omega) only [wX6_does_0, uX6_does_0, wX6_does_1, wX6_does_3, wX6_does_4, wX6_does_6, wX6_does_7, wX6_does_8, wX6_does_9, wX6_does_11, wX6_does_12, wX6_does_14, wX6_does_15, wX6_does_17, wX6_does_18, wX6_does_20, wX6_does_21, wX6_does_64, wX6_does_65, wX6_does_66, wX6_does_69, uX6_does_69, wX6_does_70, wX6_does_71, wX6_does_72, wX6_does_73, wX6_does_76, uX6_does_76, wX6_does_77, wX6_does_78, wX6_does_79, wX6_does_81, wX6_does_84, uX6_does_84, wX6_does_85, wX6_does_86, wX6_does_87, wX6_does_89, wX6_does_92, uX6_does_92, wX6_does_93, wX6_does_94, wX6_does_95, wX6_does_96, wX6_does_98, wX6_does_99, wX6_does_100, wX6_does_101, wX6_does_102, wX6_does_103, wX6_does_106, uX6_does_106, wX6_does_107, wX6_does_108, wX6_does_109, wX6_does_110, wX6_does_112, wX6_does_113, wX6_does_114, wX6_does_115, wX6_does_118, uX6_does_118, amSI_1, amSI_2, amSI_3, amSI_s, amU_at, amIsR_ref, amIsR_null, amIsR_rf, amRf_some, amRf_none, amClr_int, amClr_ref, amClr_null, amClr_long, amClr_ra, amClr_rf, amFit_int, amFit_oref, amFit_aref, amFit_onull, amFit_anull, amOptSome, amOptNone, List.cons_append, List.nil_append, true_and, and_true, true_implies, not_true_eq_false, not_false_eq_true, false_implies, and_self, Nat.add_zero, Nat.zero_add, ne_eq, Prod.mk.injEq, amC01_0, amC01_1, amC01_nb, amNb0, amNb1, amTcpI_d, Nat.reduceLeDiff, Nat.reduceAdd, Nat.reduceSub, Nat.reduceEqDiff, Nat.le_refl, amN0le, hR.s, hR.r, d8, r4, nz4, nz8, amAdd]
    refine ⟨S, rfl, hA, fun m' q1 q2 => ?_⟩
    rw [tll_hap0 hO (by omega) (by omega), ← e] at q1
    have key := hK m' (tllR S (nI 0) (nI (x / 8 % 4 + 1))).2 q1 q2
    refine goX6_does hF 60 ?_
    simp (disch := omega) only [wX6_does_0, uX6_does_0, wX6_does_1, wX6_does_3, wX6_does_4, wX6_does_6, wX6_does_7, wX6_does_8, wX6_does_9, wX6_does_11, wX6_does_12, wX6_does_14, wX6_does_15, wX6_does_17, wX6_does_18, wX6_does_20, wX6_does_21, wX6_does_64, wX6_does_65, wX6_does_66, wX6_does_69, uX6_does_69, wX6_does_70, wX6_does_71, wX6_does_72, wX6_does_73, wX6_does_76, uX6_does_76, wX6_does_77, wX6_does_78, wX6_does_79, wX6_does_81, wX6_does_84, uX6_does_84, wX6_does_85, wX6_does_86, wX6_does_87, wX6_does_89, wX6_does_92, uX6_does_92, wX6_does_93, wX6_does_94, wX6_does_95, wX6_does_96, wX6_does_98, wX6_does_99, wX6_does_100, wX6_does_101, wX6_does_102, wX6_does_103, wX6_does_106, uX6_does_106, wX6_does_107, wX6_does_108, wX6_does_109, wX6_does_110, wX6_does_112, wX6_does_113, wX6_does_114, wX6_does_115, wX6_does_118, uX6_does_118, amSI_1, amSI_2, amSI_3, amSI_s, amU_at, amIsR_ref, amIsR_null, amIsR_rf, amRf_some, amRf_none, amClr_int, amClr_ref, amClr_null, amClr_long, amClr_ra, amClr_rf, amFit_int, amFit_oref, amFit_aref, amFit_onull, amFit_anull, amOptSome, amOptNone, List.cons_append, List.nil_append, true_and, and_true, true_implies, not_true_eq_false, not_false_eq_true, false_implies, and_self, Nat.add_zero, Nat.zero_add, ne_eq, Prod.mk.injEq, amC01_0, amC01_1, amC01_nb, amNb0, amNb1, amTcpI_d, Nat.reduceLeDiff, Nat.reduceAdd, Nat.reduceSub, Nat.reduceEqDiff, Nat.le_refl, amN0le, hR.s, hR.r]
    exact amRet.of (by decide) (by decide) key
  · have e : S.hap x y = S.setT 2 (x / 8 % 3) := by rw [HS.hap, if_neg z2, if_neg z3, if_neg z4, if_neg z5, if_neg z6, if_pos (by omega)]
    simp (disch := omega) only [wX6_does_0, uX6_does_0, wX6_does_1, wX6_does_3, wX6_does_4, wX6_does_6, wX6_does_7, wX6_does_8, wX6_does_9, wX6_does_11, wX6_does_12, wX6_does_14, wX6_does_15, wX6_does_17, wX6_does_18, wX6_does_20, wX6_does_21, wX6_does_64, wX6_does_65, wX6_does_66, wX6_does_69, uX6_does_69, wX6_does_70, wX6_does_71, wX6_does_72, wX6_does_73, wX6_does_76, uX6_does_76, wX6_does_77, wX6_does_78, wX6_does_79, wX6_does_81, wX6_does_84, uX6_does_84, wX6_does_85, wX6_does_86, wX6_does_87, wX6_does_89, wX6_does_92, uX6_does_92, wX6_does_93, wX6_does_94, wX6_does_95, wX6_does_96, wX6_does_98, wX6_does_99, wX6_does_100, wX6_does_101, wX6_does_102, wX6_does_103, wX6_does_106, uX6_does_106, wX6_does_107, wX6_does_108, wX6_does_109, wX6_does_110, wX6_does_112, wX6_does_113, wX6_does_114, wX6_does_115, wX6_does_118, uX6_does_118, amSI_1, amSI_2, amSI_3, amSI_s, amU_at, amIsR_ref, amIsR_null, amIsR_rf, amRf_some, amRf_none, amClr_int, amClr_ref, amClr_null, amClr_long, amClr_ra, amClr_rf, amFit_int, amFit_oref, amFit_aref, amFit_onull, amFit_anull, amOptSome, amOptNone, List.cons_append, List.nil_append, true_and, and_true, true_implies, not_true_eq_false, not_false_eq_true, false_implies, and_self, Nat.add_zero, Nat.zero_add, ne_eq, Prod.mk.injEq, amC01_0, amC01_1, amC01_nb, amNb0, amNb1, amTcpI_d, Nat.reduceLeDiff, Nat.reduceAdd, Nat.reduceSub, Nat.reduceEqDiff, Nat.le_refl, amN0le, hR.s, hR.r, d8, r3, nz3, nz8, amAdd]
    refine ⟨S, rfl, hA, fun m' q1 q2 => ?_⟩
    rw [tll_hap2 hO (by omega), ← e] at q1
    have key := hK m' (tllR S (nI 2) (nI (x / 8 % 3))).2 q1 q2
    refine goX6_does hF 60 ?_
    simp (disch := omega) only [wX6_does_0, uX6_does_0, wX6_does_1, wX6_does_3, wX6_does_4, wX6_does_6, wX6_does_7, wX6_does_8, wX6_does_9, wX6_does_11, wX6_does_12, wX6_does_14, wX6_does_15, wX6_does_17, wX6_does_18, wX6_does_20, wX6_does_21, wX6_does_64, wX6_does_65, wX6_does_66, wX6_does_69, uX6_does_69, wX6_does_70, wX6_does_71, wX6_does_72, wX6_does_73, wX6_does_76, uX6_does_76, wX6_does_77, wX6_does_78, wX6_does_79, wX6_does_81, wX6_does_84, uX6_does_84, wX6_does_85, wX6_does_86, wX6_does_87, wX6_does_89, wX6_does_92, uX6_does_92, wX6_does_93, wX6_does_94, wX6_does_95, wX6_does_96, wX6_does_98, wX6_does_99, wX6_does_100, wX6_does_101, wX6_does_102, wX6_does_103, wX6_does_106, uX6_does_106, wX6_does_107, wX6_does_108, wX6_does_109, wX6_does_110, wX6_does_112, wX6_does_113, wX6_does_114, wX6_does_115, wX6_does_118, uX6_does_118, amSI_1, amSI_2, amSI_3, amSI_s, amU_at, amIsR_ref, amIsR_null, amIsR_rf, amRf_some, amRf_none, amClr_int, amClr_ref, amClr_null, amClr_long, amClr_ra, amClr_rf, amFit_int, amFit_oref, amFit_aref, amFit_onull, amFit_anull, amOptSome, amOptNone, List.cons_append, List.nil_append, true_and, and_true, true_implies, not_true_eq_false, not_false_eq_true, false_implies, and_self, Nat.add_zero, Nat.zero_add, ne_eq, Prod.mk.injEq, amC01_0, amC01_1, amC01_nb, amNb0, amNb1, amTcpI_d, Nat.reduceLeDiff, Nat.reduceAdd, Nat.reduceSub, Nat.reduceEqDiff, Nat.le_refl, amN0le, hR.s, hR.r]
    exact amRet.of (by decide) (by decide) key
theorem tX6_does_d {t : Nat} {x0 y0 : Int32} {h : amH} {K : Option Value → amH → Prop} : tX6_does [.ref t, .int x0, .int y0] h K = ∃ (S : HS) (x y : Nat), t = (124 : Nat) ∧ x0 = nI x ∧ y0 = nI y ∧ x < 2147483648 ∧ y < 1048576 ∧ mdSys h S ∧ ∀ m' c, RwIs m' 125 0 (S.hap x y) → maFr h.2.1 m' → K (some (.int c)) (amSI h m') := rfl
