/-! the reference: its cells, its row, its small statics -/
set_option maxRecDepth 100000
/-- the shapes of the reference's cells -/
def mdSh (h : amH) : Prop := h.1 124 = (0, 6) ∧ h.1 125 = (1, 27) ∧ h.1 126 = (1, 162) ∧ h.1 127 = (1, 27) ∧ h.1 128 = (1, 162) ∧ h.1 129 = (1, 90) ∧ h.1 130 = (1, 4) ∧ h.1 131 = (1, 4) ∧ h.1 132 = (5, 96) ∧ h.1 133 = (5, 24) ∧ h.1 134 = (1, 7) ∧ h.1 135 = (1, 20) ∧ h.1 136 = (1, 20) ∧ h.1 137 = (1, 7) ∧ h.1 138 = (1, 7) ∧ h.1 139 = (1, 7) ∧ h.1 140 = (1, 7) ∧ h.1 141 = (1, 64) ∧ h.1 142 = (1, 27)
def mdRf (h : amH) : Prop := h.2.2.2.1 124 0 = some 125 ∧ h.2.2.2.1 124 1 = some 126 ∧ h.2.2.2.1 124 3 = some 127 ∧ h.2.2.2.1 124 4 = some 128 ∧ h.2.2.2.1 124 6 = some 129 ∧ h.2.2.2.1 124 8 = some 130 ∧ h.2.2.2.1 124 9 = some 131 ∧ h.2.2.2.1 124 10 = some 132 ∧ h.2.2.2.1 124 11 = some 133 ∧ h.2.2.2.1 124 12 = some 134 ∧ h.2.2.2.1 124 13 = some 135 ∧ h.2.2.2.1 124 14 = some 136 ∧ h.2.2.2.1 124 15 = some 137 ∧ h.2.2.2.1 124 16 = some 138 ∧ h.2.2.2.1 124 17 = some 139 ∧ h.2.2.2.1 124 18 = some 140 ∧ h.2.2.2.1 124 22 = some 141 ∧ h.2.2.2.1 124 24 = some 142
def mdAt (h : amH) : Prop := mdSh h ∧ mdRf h
theorem mdAt.s {h : amH} (q : mdAt h) : h.1 124 = (0, 6) ∧ h.1 125 = (1, 27) ∧ h.1 126 = (1, 162) ∧ h.1 127 = (1, 27) ∧ h.1 128 = (1, 162) ∧ h.1 129 = (1, 90) ∧ h.1 130 = (1, 4) ∧ h.1 131 = (1, 4) ∧ h.1 132 = (5, 96) ∧ h.1 133 = (5, 24) ∧ h.1 134 = (1, 7) ∧ h.1 135 = (1, 20) ∧ h.1 136 = (1, 20) ∧ h.1 137 = (1, 7) ∧ h.1 138 = (1, 7) ∧ h.1 139 = (1, 7) ∧ h.1 140 = (1, 7) ∧ h.1 141 = (1, 64) ∧ h.1 142 = (1, 27) := q.1
theorem mdAt.r {h : amH} (q : mdAt h) : h.2.2.2.1 124 0 = some 125 ∧ h.2.2.2.1 124 1 = some 126 ∧ h.2.2.2.1 124 3 = some 127 ∧ h.2.2.2.1 124 4 = some 128 ∧ h.2.2.2.1 124 6 = some 129 ∧ h.2.2.2.1 124 8 = some 130 ∧ h.2.2.2.1 124 9 = some 131 ∧ h.2.2.2.1 124 10 = some 132 ∧ h.2.2.2.1 124 11 = some 133 ∧ h.2.2.2.1 124 12 = some 134 ∧ h.2.2.2.1 124 13 = some 135 ∧ h.2.2.2.1 124 14 = some 136 ∧ h.2.2.2.1 124 15 = some 137 ∧ h.2.2.2.1 124 16 = some 138 ∧ h.2.2.2.1 124 17 = some 139 ∧ h.2.2.2.1 124 18 = some 140 ∧ h.2.2.2.1 124 22 = some 141 ∧ h.2.2.2.1 124 24 = some 142 := q.2
theorem mdAt.si {h : amH} {m : Nat → Nat → Int32} (q : mdAt h) : mdAt (amSI h m) := q
/-- a row keeps it: array a from o on -/
def RwIs (m : Nat → Nat → Int32) (a o : Nat) (S : HS) : Prop := S.ord.length ≤ 7 ∧ S.sets.length = S.ord.length ∧ S.ahead.length = S.ord.length ∧ m a o = nI S.ord.length ∧ m a (o + 1) = nI S.prior ∧ m a (o + 2) = nI S.span ∧ m a (o + 3) = nI S.bound ∧ m a (o + 4) = nI S.rule ∧ m a (o + 5) = nI S.draw ∧ (∀ k, k < S.ord.length → m a (o + (6 + k)) = nI (S.ord.getD k 0)) ∧ (∀ k, k < S.ord.length → m a (o + (13 + k)) = nI (S.sets.getD k 0)) ∧ ∀ k, k < S.ord.length → m a (o + (20 + k)) = nI (S.ahead.getD k 0)
theorem RwIs.n7 {m a o S} (h : RwIs m a o S) : (HS.ord S).length ≤ 7 := h.1
theorem RwIs.ls {m a o S} (h : RwIs m a o S) : (HS.sets S).length = (HS.ord S).length := h.2.1
theorem RwIs.la {m a o S} (h : RwIs m a o S) : (HS.ahead S).length = (HS.ord S).length := h.2.2.1
theorem RwIs.n {m a o S} (h : RwIs m a o S) : m a o = nI (HS.ord S).length := h.2.2.2.1
theorem RwIs.prior {m a o S} (h : RwIs m a o S) : m a (o + 1) = nI (HS.prior S) := h.2.2.2.2.1
theorem RwIs.span {m a o S} (h : RwIs m a o S) : m a (o + 2) = nI (HS.span S) := h.2.2.2.2.2.1
theorem RwIs.bound {m a o S} (h : RwIs m a o S) : m a (o + 3) = nI (HS.bound S) := h.2.2.2.2.2.2.1
theorem RwIs.rule {m a o S} (h : RwIs m a o S) : m a (o + 4) = nI (HS.rule S) := h.2.2.2.2.2.2.2.1
theorem RwIs.draw {m a o S} (h : RwIs m a o S) : m a (o + 5) = nI (HS.draw S) := h.2.2.2.2.2.2.2.2.1
theorem RwIs.ord {m a o S} (h : RwIs m a o S) : ∀ k, k < (HS.ord S).length → m a (o + (6 + k)) = nI ((HS.ord S).getD k 0) := h.2.2.2.2.2.2.2.2.2.1
theorem RwIs.sets {m a o S} (h : RwIs m a o S) : ∀ k, k < (HS.ord S).length → m a (o + (13 + k)) = nI ((HS.sets S).getD k 0) := h.2.2.2.2.2.2.2.2.2.2.1
theorem RwIs.ahead {m a o S} (h : RwIs m a o S) : ∀ k, k < (HS.ord S).length → m a (o + (20 + k)) = nI ((HS.ahead S).getD k 0) := h.2.2.2.2.2.2.2.2.2.2.2
theorem RwIs.o0 {m a S} (h : RwIs m a 0 S) : ∀ k, k < (HS.ord S).length → m a (6 + k) = nI ((HS.ord S).getD k 0) := fun k hk => by have := h.ord k hk; rw [Nat.zero_add] at this; exact this
theorem RwIs.s0 {m a S} (h : RwIs m a 0 S) : ∀ k, k < (HS.ord S).length → m a (13 + k) = nI ((HS.sets S).getD k 0) := fun k hk => by have := h.sets k hk; rw [Nat.zero_add] at this; exact this
theorem RwIs.a0 {m a S} (h : RwIs m a 0 S) : ∀ k, k < (HS.ord S).length → m a (20 + k) = nI ((HS.ahead S).getD k 0) := fun k hk => by have := h.ahead k hk; rw [Nat.zero_add] at this; exact this
/-- a row copied, place by place -/
theorem RwIs.copy {m m' : Nat → Nat → Int32} {a b o q : Nat} {S : HS} (h : RwIs m a o S) (e : ∀ k : Nat, k < 27 → m' b (q + k) = m a (o + k)) : RwIs m' b q S := by
  have n7 := h.n7
  refine ⟨h.n7, h.ls, h.la, ?_, ?_, ?_, ?_, ?_, ?_, fun k hk => ?_, fun k hk => ?_, fun k hk => ?_⟩
  · have := e 0 (by decide)
    rw [Nat.add_zero, Nat.add_zero] at this
    rw [this]; exact h.n
  · rw [e 1 (by decide)]; exact h.prior
  · rw [e 2 (by decide)]; exact h.span
  · rw [e 3 (by decide)]; exact h.bound
  · rw [e 4 (by decide)]; exact h.rule
  · rw [e 5 (by decide)]; exact h.draw
  · rw [e (6 + k) (by omega)]; exact h.ord k hk
  · rw [e (13 + k) (by omega)]; exact h.sets k hk
  · rw [e (20 + k) (by omega)]; exact h.ahead k hk
theorem RwIs.kept {m m' : Nat → Nat → Int32} {a o : Nat} {S : HS} (h : RwIs m a o S) (e : m' a = m a) : RwIs m' a o S := h.copy (fun k _ => by rw [e])
/-- bit by bit, the least first -/
theorem cnt_low : ∀ n x, x < 2 ^ n → x ≠ 0 → cntB (fun i => (x &&& (x - 1)).testBit i) n + 1 = cntB (fun i => x.testBit i) n
  | 0, x, h, h0 => by omega
  | n + 1, x, h, h0 => by
    rw [Nat.add_comm n 1, cntB_shift, cntB_shift]
    have e1 : ∀ y : Nat, cntB (fun i => y.testBit i) 1 = if y % 2 = 1 then 1 else 0 := fun y => by
      simp only [cntB, Nat.testBit_zero, decide_eq_true_eq, Nat.zero_add]
    have e2 : ∀ y : Nat, cntB (fun i => y.testBit (1 + i)) n = cntB (fun i => (y / 2).testBit i) n := fun y => cntB_congr (fun i _ => by rw [Nat.add_comm 1 i, Nat.testBit_succ])
    rw [e1, e1, e2, e2]
    have h2 : x / 2 < 2 ^ n := by rw [Nat.pow_succ] at h; omega
    have z : (x &&& (x - 1)) % 2 = 0 := by
      have t : (x &&& (x - 1)).testBit 0 = false := by
        rw [Nat.testBit_and, Nat.testBit_zero, Nat.testBit_zero]
        rcases Nat.mod_two_eq_zero_or_one x with q | q
        · simp [q]
        · have : (x - 1) % 2 = 0 := by omega
          simp [this]
      rw [Nat.testBit_zero] at t
      have := of_decide_eq_false t
      omega
    have d : (x &&& (x - 1)) / 2 = (x / 2) &&& ((x - 1) / 2) := by
      apply Nat.eq_of_testBit_eq
      intro i
      rw [← Nat.testBit_succ, Nat.testBit_and, Nat.testBit_and, Nat.testBit_succ, Nat.testBit_succ]
    rw [z, d, if_neg (by decide)]
    rcases Nat.mod_two_eq_zero_or_one x with q | q
    · rw [q, if_neg (by decide)]
      have hx : (x - 1) / 2 = x / 2 - 1 := by omega
      rw [hx]
      have := cnt_low n (x / 2) h2 (by omega)
      omega
    · rw [q, if_pos rfl]
      have hx : (x - 1) / 2 = x / 2 := by omega
      rw [hx, Nat.and_self]
      omega
theorem pop_low {x : Nat} (h : x < 1048576) (h0 : x ≠ 0) : pop (x &&& (x - 1)) + 1 = pop x := cnt_low 20 x h h0
theorem pop_0 : pop 0 = 0 := by decide +kernel
def tX6_in : amT := fun as h K => match as with
  | [.long v, .long a, .long b] => K (some (.int (amC01 (a ≤ v ∧ v ≤ b)))) h
  | _ => False
/-! ReadingStagesModel.in(JJJ)Z -/
def kX6_in : Nat → Bool := fun pc => false
def rX6_in : List (Nat × amS) := []
def eX6_in (ret : Option Value → amH → Nat → Nat → Prop) (F : amX) : Nat → amX := amWp cX6_in kX6_in (amLk rX6_in) (some .boolean) 0 0 ret F
def sX6_in (ret : Option Value → amH → Nat → Nat → Prop) (F : amX) : Nat → amX := amWs cX6_in kX6_in (amLk rX6_in) (some .boolean) 0 0 ret F
theorem wX6_in_0 {ret F n h} {v1 v2 v3 v4 v5 st y} : eX6_in ret F (n + 1) 0 [.long y, v1, v2, v3, v4, v5] (st) h 0 0 = (eX6_in ret F n 1 [.long y, v1, v2, v3, v4, v5] (.long y :: st) h 0 0) := (amWp_dec rfl dX6_in_0 rfl).trans rfl
theorem uX6_in_0 {ret F n h} {v1 v2 v3 v4 v5 st y} : sX6_in ret F n 0 [.long y, v1, v2, v3, v4, v5] (st) h 0 0 = (eX6_in ret F n 1 [.long y, v1, v2, v3, v4, v5] (.long y :: st) h 0 0) := (amWs_dec dX6_in_0 rfl).trans rfl
theorem wX6_in_1 {ret F n h} {v0 v1 v3 v4 v5 st y} : eX6_in ret F (n + 1) 1 [v0, v1, .long y, v3, v4, v5] (st) h 0 0 = (eX6_in ret F n 2 [v0, v1, .long y, v3, v4, v5] (.long y :: st) h 0 0) := (amWp_dec rfl dX6_in_1 rfl).trans rfl
theorem wX6_in_2 {ret F n h} {v0 v1 v2 v3 v4 v5 st y x} : eX6_in ret F (n + 1) 2 [v0, v1, v2, v3, v4, v5] (.long y :: .long x :: st) h 0 0 = (eX6_in ret F n 3 [v0, v1, v2, v3, v4, v5] (.int (lg_cmp x y) :: st) h 0 0) := (amWp_dec rfl dX6_in_2 rfl).trans rfl
theorem wX6_in_3 {ret F n h} {v0 v1 v2 v3 v4 v5 st x} : eX6_in ret F (n + 1) 3 [v0, v1, v2, v3, v4, v5] (.int x :: st) h 0 0 = ((x < 0 → eX6_in ret F n 17 [v0, v1, v2, v3, v4, v5] (st) h 0 0) ∧ (¬ x < 0 → eX6_in ret F n 6 [v0, v1, v2, v3, v4, v5] (st) h 0 0)) := (amWp_dec rfl dX6_in_3 rfl).trans rfl
theorem wX6_in_6 {ret F n h} {v1 v2 v3 v4 v5 st y} : eX6_in ret F (n + 1) 6 [.long y, v1, v2, v3, v4, v5] (st) h 0 0 = (eX6_in ret F n 7 [.long y, v1, v2, v3, v4, v5] (.long y :: st) h 0 0) := (amWp_dec rfl dX6_in_6 rfl).trans rfl
theorem wX6_in_7 {ret F n h} {v0 v1 v2 v3 v5 st y} : eX6_in ret F (n + 1) 7 [v0, v1, v2, v3, .long y, v5] (st) h 0 0 = (eX6_in ret F n 9 [v0, v1, v2, v3, .long y, v5] (.long y :: st) h 0 0) := (amWp_dec rfl dX6_in_7 rfl).trans rfl
theorem wX6_in_9 {ret F n h} {v0 v1 v2 v3 v4 v5 st y x} : eX6_in ret F (n + 1) 9 [v0, v1, v2, v3, v4, v5] (.long y :: .long x :: st) h 0 0 = (eX6_in ret F n 10 [v0, v1, v2, v3, v4, v5] (.int (lg_cmp x y) :: st) h 0 0) := (amWp_dec rfl dX6_in_9 rfl).trans rfl
theorem wX6_in_10 {ret F n h} {v0 v1 v2 v3 v4 v5 st x} : eX6_in ret F (n + 1) 10 [v0, v1, v2, v3, v4, v5] (.int x :: st) h 0 0 = ((0 < x → eX6_in ret F n 17 [v0, v1, v2, v3, v4, v5] (st) h 0 0) ∧ (¬ 0 < x → eX6_in ret F n 13 [v0, v1, v2, v3, v4, v5] (st) h 0 0)) := (amWp_dec rfl dX6_in_10 rfl).trans rfl
theorem wX6_in_13 {ret F n h} {v0 v1 v2 v3 v4 v5 st} : eX6_in ret F (n + 1) 13 [v0, v1, v2, v3, v4, v5] (st) h 0 0 = (eX6_in ret F n 14 [v0, v1, v2, v3, v4, v5] (.int (nI 1) :: st) h 0 0) := (amWp_dec rfl dX6_in_13 rfl).trans rfl
theorem wX6_in_14 {ret F n h} {v0 v1 v2 v3 v4 v5 st} : eX6_in ret F (n + 1) 14 [v0, v1, v2, v3, v4, v5] (st) h 0 0 = (eX6_in ret F n 18 [v0, v1, v2, v3, v4, v5] (st) h 0 0) := (amWp_dec rfl dX6_in_14 rfl).trans rfl
theorem wX6_in_17 {ret F n h} {v0 v1 v2 v3 v4 v5 st} : eX6_in ret F (n + 1) 17 [v0, v1, v2, v3, v4, v5] (st) h 0 0 = (eX6_in ret F n 18 [v0, v1, v2, v3, v4, v5] (.int (nI 0) :: st) h 0 0) := (amWp_dec rfl dX6_in_17 rfl).trans rfl
theorem wX6_in_18 {ret F n h} {v0 v1 v2 v3 v4 v5 x} : eX6_in ret F (n + 1) 18 [v0, v1, v2, v3, v4, v5] ([.int x]) h 0 0 = (narrow .boolean (.int x) = .int x ∧ ret (some (.int x)) h 0 0) := (amWp_dec rfl dX6_in_18 rfl).trans (amRetTy)
theorem evX6_in (l : Launch) (G : amG) : ∀ pc S i sz, amLk rX6_in pc = some S → decode cX6_in pc = .ok (i, sz) → amSiteP pc G l yX6_in.cls yX6_in.name yX6_in.desc (amRm 1 0 0) i sz S.1 S.2.1 S.2.2.1 S.2.2.2 := amLk_ok (by
  exact fun _ h => absurd h List.not_mem_nil)
theorem goX6_in {ret F} (hF : amCld cX6_in kX6_in (amLk rX6_in) (some .boolean) 0 0 ret F) (n : Nat) {pc ls st h k z} (q : sX6_in ret F n pc ls st h k z) : F pc ls st h k z := hF.1 n pc ls st h k z q
theorem metX6_in (l : Launch) (G : amG) : amMet l G yX6_in (ws_ yX6_in cX6_in 6 (some .boolean)) 1 0 0 tX6_in := by
  refine amMet_of (cut := kX6_in) (by decide +kernel) (evX6_in l G) ?_
  intro as h K hT
  match as, hT with
  | [.long v, .long a, .long b], hK =>
  refine ⟨Nat.le_of_ble_eq_true rfl, fun F hF => ?_⟩
  show F 0 [.long v, .retAddr 0, .long a, .retAddr 0, .long b, .retAddr 0] [] h 0 0
  have hK : K (some (.int (amC01 (a ≤ v ∧ v ≤ b)))) h := hK
  refine goX6_in hF 20 ?_
  simp (disch := omega) only [wX6_in_0, uX6_in_0, wX6_in_1, wX6_in_2, wX6_in_3, wX6_in_6, wX6_in_7, wX6_in_9, wX6_in_10, wX6_in_13, wX6_in_14, wX6_in_17, wX6_in_18, amSI_1, amSI_2, amSI_3, amSI_s, amU_at, amIsR_ref, amIsR_null, amIsR_rf, amRf_some, amRf_none, amClr_int, amClr_ref, amClr_null, amClr_long, amClr_ra, amClr_rf, amFit_int, amFit_oref, amFit_aref, amFit_onull, amFit_anull, amOptSome, amOptNone, List.cons_append, List.nil_append, true_and, and_true, true_implies, not_true_eq_false, not_false_eq_true, false_implies, and_self, Nat.add_zero, Nat.zero_add, ne_eq, Prod.mk.injEq, amC01_0, amC01_1, amC01_nb, amNb0, amNb1, amTcpI_d, Nat.reduceLeDiff, Nat.reduceAdd, Nat.reduceSub, Nat.reduceEqDiff, Nat.le_refl, amN0le, amCmpLt, amCmpGt]
  refine ⟨fun q => ?_, fun q => ⟨fun r => ?_, fun r => ?_⟩⟩
  · rw [amC01_f (fun z => Int64.not_lt.mpr z.1 q)] at hK
    exact amRet.of (by decide) (by decide) hK
  · rw [amC01_f (fun z => Int64.not_lt.mpr z.2 r)] at hK
    exact amRet.of (by decide) (by decide) hK
  · rw [amC01_t ⟨Int64.not_lt.mp q, Int64.not_lt.mp r⟩] at hK
    exact amRet.of (by decide) (by decide) hK
theorem tX6_in_d {v a b : Int64} {h : amH} {K : Option Value → amH → Prop} : tX6_in [.long v, .long a, .long b] h K = K (some (.int (amC01 (a ≤ v ∧ v ≤ b)))) h := rfl
def tX6_has : amT := fun as h K => match as with
  | [.int x, .int y] => K (some (.int (amC01 ((x >>> (y &&& 31)) &&& nI 1 = nI 1)))) h
  | _ => False
/-! ReadingStagesModel.has(II)Z -/
def kX6_has : Nat → Bool := fun pc => false
def rX6_has : List (Nat × amS) := []
def eX6_has (ret : Option Value → amH → Nat → Nat → Prop) (F : amX) : Nat → amX := amWp cX6_has kX6_has (amLk rX6_has) (some .boolean) 0 0 ret F
def sX6_has (ret : Option Value → amH → Nat → Nat → Prop) (F : amX) : Nat → amX := amWs cX6_has kX6_has (amLk rX6_has) (some .boolean) 0 0 ret F
theorem wX6_has_0 {ret F n h} {v1 st x} : eX6_has ret F (n + 1) 0 [.int x, v1] (st) h 0 0 = (eX6_has ret F n 1 [.int x, v1] (.int x :: st) h 0 0) := (amWp_dec rfl dX6_has_0 rfl).trans rfl
theorem uX6_has_0 {ret F n h} {v1 st x} : sX6_has ret F n 0 [.int x, v1] (st) h 0 0 = (eX6_has ret F n 1 [.int x, v1] (.int x :: st) h 0 0) := (amWs_dec dX6_has_0 rfl).trans rfl
theorem wX6_has_1 {ret F n h} {v0 st x} : eX6_has ret F (n + 1) 1 [v0, .int x] (st) h 0 0 = (eX6_has ret F n 2 [v0, .int x] (.int x :: st) h 0 0) := (amWp_dec rfl dX6_has_1 rfl).trans rfl
theorem wX6_has_2 {ret F n h} {v0 v1 st y x} : eX6_has ret F (n + 1) 2 [v0, v1] (.int y :: .int x :: st) h 0 0 = (eX6_has ret F n 3 [v0, v1] (.int (x >>> (y &&& 31)) :: st) h 0 0) := (amWp_dec rfl dX6_has_2 rfl).trans rfl
theorem wX6_has_3 {ret F n h} {v0 v1 st} : eX6_has ret F (n + 1) 3 [v0, v1] (st) h 0 0 = (eX6_has ret F n 4 [v0, v1] (.int (nI 1) :: st) h 0 0) := (amWp_dec rfl dX6_has_3 rfl).trans rfl
theorem wX6_has_4 {ret F n h} {v0 v1 st y x} : eX6_has ret F (n + 1) 4 [v0, v1] (.int y :: .int x :: st) h 0 0 = (eX6_has ret F n 5 [v0, v1] (.int (x &&& y) :: st) h 0 0) := (amWp_dec rfl dX6_has_4 rfl).trans rfl
theorem wX6_has_5 {ret F n h} {v0 v1 st} : eX6_has ret F (n + 1) 5 [v0, v1] (st) h 0 0 = (eX6_has ret F n 6 [v0, v1] (.int (nI 1) :: st) h 0 0) := (amWp_dec rfl dX6_has_5 rfl).trans rfl
theorem wX6_has_6 {ret F n h} {v0 v1 st y x} : eX6_has ret F (n + 1) 6 [v0, v1] (.int y :: .int x :: st) h 0 0 = ((¬ x = y → eX6_has ret F n 13 [v0, v1] (st) h 0 0) ∧ (x = y → eX6_has ret F n 9 [v0, v1] (st) h 0 0)) := (amWp_dec rfl dX6_has_6 rfl).trans rfl
theorem wX6_has_9 {ret F n h} {v0 v1 st} : eX6_has ret F (n + 1) 9 [v0, v1] (st) h 0 0 = (eX6_has ret F n 10 [v0, v1] (.int (nI 1) :: st) h 0 0) := (amWp_dec rfl dX6_has_9 rfl).trans rfl
theorem wX6_has_10 {ret F n h} {v0 v1 st} : eX6_has ret F (n + 1) 10 [v0, v1] (st) h 0 0 = (eX6_has ret F n 14 [v0, v1] (st) h 0 0) := (amWp_dec rfl dX6_has_10 rfl).trans rfl
theorem wX6_has_13 {ret F n h} {v0 v1 st} : eX6_has ret F (n + 1) 13 [v0, v1] (st) h 0 0 = (eX6_has ret F n 14 [v0, v1] (.int (nI 0) :: st) h 0 0) := (amWp_dec rfl dX6_has_13 rfl).trans rfl
theorem wX6_has_14 {ret F n h} {v0 v1 x} : eX6_has ret F (n + 1) 14 [v0, v1] ([.int x]) h 0 0 = (narrow .boolean (.int x) = .int x ∧ ret (some (.int x)) h 0 0) := (amWp_dec rfl dX6_has_14 rfl).trans (amRetTy)
theorem evX6_has (l : Launch) (G : amG) : ∀ pc S i sz, amLk rX6_has pc = some S → decode cX6_has pc = .ok (i, sz) → amSiteP pc G l yX6_has.cls yX6_has.name yX6_has.desc (amRm 1 0 0) i sz S.1 S.2.1 S.2.2.1 S.2.2.2 := amLk_ok (by
  exact fun _ h => absurd h List.not_mem_nil)
theorem goX6_has {ret F} (hF : amCld cX6_has kX6_has (amLk rX6_has) (some .boolean) 0 0 ret F) (n : Nat) {pc ls st h k z} (q : sX6_has ret F n pc ls st h k z) : F pc ls st h k z := hF.1 n pc ls st h k z q
theorem metX6_has (l : Launch) (G : amG) : amMet l G yX6_has (ws_ yX6_has cX6_has 2 (some .boolean)) 1 0 0 tX6_has := by
  refine amMet_of (cut := kX6_has) (by decide +kernel) (evX6_has l G) ?_
  intro as h K hT
  match as, hT with
  | [.int x, .int y], hK =>
  refine ⟨Nat.le_of_ble_eq_true rfl, fun F hF => ?_⟩
  show F 0 [.int x, .int y] [] h 0 0
  have hK : K (some (.int (amC01 ((x >>> (y &&& 31)) &&& nI 1 = nI 1)))) h := hK
  refine goX6_has hF 20 ?_
  simp (disch := omega) only [wX6_has_0, uX6_has_0, wX6_has_1, wX6_has_2, wX6_has_3, wX6_has_4, wX6_has_5, wX6_has_6, wX6_has_9, wX6_has_10, wX6_has_13, wX6_has_14, amSI_1, amSI_2, amSI_3, amSI_s, amU_at, amIsR_ref, amIsR_null, amIsR_rf, amRf_some, amRf_none, amClr_int, amClr_ref, amClr_null, amClr_long, amClr_ra, amClr_rf, amFit_int, amFit_oref, amFit_aref, amFit_onull, amFit_anull, amOptSome, amOptNone, List.cons_append, List.nil_append, true_and, and_true, true_implies, not_true_eq_false, not_false_eq_true, false_implies, and_self, Nat.add_zero, Nat.zero_add, ne_eq, Prod.mk.injEq, amC01_0, amC01_1, amC01_nb, amNb0, amNb1, amTcpI_d, Nat.reduceLeDiff, Nat.reduceAdd, Nat.reduceSub, Nat.reduceEqDiff, Nat.le_refl, amN0le]
  refine ⟨fun q => ?_, fun q => ?_⟩
  · rw [amC01_f q] at hK
    exact amRet.of (by decide) (by decide) hK
  · rw [amC01_t q] at hK
    exact amRet.of (by decide) (by decide) hK
theorem tX6_has_d {x y : Int32} {h : amH} {K : Option Value → amH → Prop} : tX6_has [.int x, .int y] h K = K (some (.int (amC01 ((x >>> (y &&& 31)) &&& nI 1 = nI 1)))) h := rfl
def tX6_sizeOf : amT := fun as h K => match as with
  | [.int x] => ∃ n : Nat, x = nI n ∧ n < 1048576 ∧ K (some (.int (nI (pop n)))) h
  | _ => False
/-! ReadingStagesModel.sizeOf(I)I -/
def kX6_sizeOf : Nat → Bool := fun pc => pc == 4
def rX6_sizeOf : List (Nat × amS) := []
def eX6_sizeOf (ret : Option Value → amH → Nat → Nat → Prop) (F : amX) : Nat → amX := amWp cX6_sizeOf kX6_sizeOf (amLk rX6_sizeOf) (some .int) 0 0 ret F
def sX6_sizeOf (ret : Option Value → amH → Nat → Nat → Prop) (F : amX) : Nat → amX := amWs cX6_sizeOf kX6_sizeOf (amLk rX6_sizeOf) (some .int) 0 0 ret F
theorem wX6_sizeOf_0 {ret F n h} {v0 v1 v2 st} : eX6_sizeOf ret F (n + 1) 0 [v0, v1, v2] (st) h 0 0 = (eX6_sizeOf ret F n 1 [v0, v1, v2] (.int (nI 0) :: st) h 0 0) := (amWp_dec rfl dX6_sizeOf_0 rfl).trans rfl
theorem uX6_sizeOf_0 {ret F n h} {v0 v1 v2 st} : sX6_sizeOf ret F n 0 [v0, v1, v2] (st) h 0 0 = (eX6_sizeOf ret F n 1 [v0, v1, v2] (.int (nI 0) :: st) h 0 0) := (amWs_dec dX6_sizeOf_0 rfl).trans rfl
theorem wX6_sizeOf_1 {ret F n h} {v0 v1 v2 st x} : eX6_sizeOf ret F (n + 1) 1 [v0, v1, v2] (.int x :: st) h 0 0 = (eX6_sizeOf ret F n 2 [amClr v0, .int x, v2] (st) h 0 0) := (amWp_dec rfl dX6_sizeOf_1 rfl).trans (amTrue (Nat.le_of_ble_eq_true rfl))
theorem wX6_sizeOf_2 {ret F n h} {v1 v2 st x} : eX6_sizeOf ret F (n + 1) 2 [.int x, v1, v2] (st) h 0 0 = (eX6_sizeOf ret F n 3 [.int x, v1, v2] (.int x :: st) h 0 0) := (amWp_dec rfl dX6_sizeOf_2 rfl).trans rfl
theorem wX6_sizeOf_3 {ret F n h} {v0 v1 v2 st x} : eX6_sizeOf ret F (n + 1) 3 [v0, v1, v2] (.int x :: st) h 0 0 = (eX6_sizeOf ret F n 4 [v0, amClr v1, .int x] (st) h 0 0) := (amWp_dec rfl dX6_sizeOf_3 rfl).trans (amTrue (Nat.le_of_ble_eq_true rfl))
theorem wX6_sizeOf_4 {ret F n ls st h k z} : eX6_sizeOf ret F (n + 1) 4 ls st h k z = F 4 ls st h k z := amWp_cut rfl
theorem uX6_sizeOf_4 {ret F n h} {v0 v1 st x} : sX6_sizeOf ret F n 4 [v0, v1, .int x] (st) h 0 0 = (eX6_sizeOf ret F n 5 [v0, v1, .int x] (.int x :: st) h 0 0) := (amWs_dec dX6_sizeOf_4 rfl).trans rfl
theorem wX6_sizeOf_5 {ret F n h} {v0 v1 v2 st x} : eX6_sizeOf ret F (n + 1) 5 [v0, v1, v2] (.int x :: st) h 0 0 = ((x = 0 → eX6_sizeOf ret F n 20 [v0, v1, v2] (st) h 0 0) ∧ (¬ x = 0 → eX6_sizeOf ret F n 8 [v0, v1, v2] (st) h 0 0)) := (amWp_dec rfl dX6_sizeOf_5 rfl).trans rfl
theorem wX6_sizeOf_8 {ret F n h} {v0 v2 st x} : eX6_sizeOf ret F (n + 1) 8 [v0, .int x, v2] (st) h 0 0 = (eX6_sizeOf ret F n 11 [amClr v0, .int (x + nI 1), v2] (st) h 0 0) := (amWp_dec rfl dX6_sizeOf_8 rfl).trans rfl
theorem wX6_sizeOf_11 {ret F n h} {v0 v1 st x} : eX6_sizeOf ret F (n + 1) 11 [v0, v1, .int x] (st) h 0 0 = (eX6_sizeOf ret F n 12 [v0, v1, .int x] (.int x :: st) h 0 0) := (amWp_dec rfl dX6_sizeOf_11 rfl).trans rfl
theorem wX6_sizeOf_12 {ret F n h} {v0 v1 st x} : eX6_sizeOf ret F (n + 1) 12 [v0, v1, .int x] (st) h 0 0 = (eX6_sizeOf ret F n 13 [v0, v1, .int x] (.int x :: st) h 0 0) := (amWp_dec rfl dX6_sizeOf_12 rfl).trans rfl
theorem wX6_sizeOf_13 {ret F n h} {v0 v1 v2 st} : eX6_sizeOf ret F (n + 1) 13 [v0, v1, v2] (st) h 0 0 = (eX6_sizeOf ret F n 14 [v0, v1, v2] (.int (nI 1) :: st) h 0 0) := (amWp_dec rfl dX6_sizeOf_13 rfl).trans rfl
theorem wX6_sizeOf_14 {ret F n h} {v0 v1 v2 st y x} : eX6_sizeOf ret F (n + 1) 14 [v0, v1, v2] (.int y :: .int x :: st) h 0 0 = (eX6_sizeOf ret F n 15 [v0, v1, v2] (.int (x - y) :: st) h 0 0) := (amWp_dec rfl dX6_sizeOf_14 rfl).trans rfl
theorem wX6_sizeOf_15 {ret F n h} {v0 v1 v2 st y x} : eX6_sizeOf ret F (n + 1) 15 [v0, v1, v2] (.int y :: .int x :: st) h 0 0 = (eX6_sizeOf ret F n 16 [v0, v1, v2] (.int (x &&& y) :: st) h 0 0) := (amWp_dec rfl dX6_sizeOf_15 rfl).trans rfl
theorem wX6_sizeOf_16 {ret F n h} {v0 v1 v2 st x} : eX6_sizeOf ret F (n + 1) 16 [v0, v1, v2] (.int x :: st) h 0 0 = (eX6_sizeOf ret F n 17 [v0, amClr v1, .int x] (st) h 0 0) := (amWp_dec rfl dX6_sizeOf_16 rfl).trans (amTrue (Nat.le_of_ble_eq_true rfl))
theorem wX6_sizeOf_17 {ret F n h} {v0 v1 v2 st} : eX6_sizeOf ret F (n + 1) 17 [v0, v1, v2] (st) h 0 0 = (eX6_sizeOf ret F n 4 [v0, v1, v2] (st) h 0 0) := (amWp_dec rfl dX6_sizeOf_17 rfl).trans rfl
theorem wX6_sizeOf_20 {ret F n h} {v0 v2 st x} : eX6_sizeOf ret F (n + 1) 20 [v0, .int x, v2] (st) h 0 0 = (eX6_sizeOf ret F n 21 [v0, .int x, v2] (.int x :: st) h 0 0) := (amWp_dec rfl dX6_sizeOf_20 rfl).trans rfl
theorem wX6_sizeOf_21 {ret F n h} {v0 v1 v2 x} : eX6_sizeOf ret F (n + 1) 21 [v0, v1, v2] ([.int x]) h 0 0 = (ret (some (.int x)) h 0 0) := (amWp_dec rfl dX6_sizeOf_21 rfl).trans (amTrue ⟨_, rfl, rfl⟩)
theorem evX6_sizeOf (l : Launch) (G : amG) : ∀ pc S i sz, amLk rX6_sizeOf pc = some S → decode cX6_sizeOf pc = .ok (i, sz) → amSiteP pc G l yX6_sizeOf.cls yX6_sizeOf.name yX6_sizeOf.desc (amRm 1 0 0) i sz S.1 S.2.1 S.2.2.1 S.2.2.2 := amLk_ok (by
  exact fun _ h => absurd h List.not_mem_nil)
theorem goX6_sizeOf {ret F} (hF : amCld cX6_sizeOf kX6_sizeOf (amLk rX6_sizeOf) (some .int) 0 0 ret F) (n : Nat) {pc ls st h k z} (q : sX6_sizeOf ret F n pc ls st h k z) : F pc ls st h k z := hF.1 n pc ls st h k z q
theorem metX6_sizeOf (l : Launch) (G : amG) : amMet l G yX6_sizeOf (ws_ yX6_sizeOf cX6_sizeOf 3 (some .int)) 1 0 0 tX6_sizeOf := by
  refine amMet_of (cut := kX6_sizeOf) (by decide +kernel) (evX6_sizeOf l G) ?_
  intro as h K hT
  match as, hT with
  | [.int x], ⟨n, e0, hn, hK⟩ =>
  refine ⟨Nat.le_of_ble_eq_true rfl, fun F hF => ?_⟩
  show F 0 [.int x, .retAddr 0, .retAddr 0] [] h 0 0
  subst e0
  have loop : ∀ t y c, y ≤ t → y < 1048576 → c + pop y = pop n → F 4 [.int (nI n), .int (nI c), .int (nI y)] [] h 0 0 := by
    intro t
    induction t with
    | zero =>
      intro y c e1 e2 e3
      have e : y = 0 := by omega
      subst e
      rw [pop_0, Nat.add_zero] at e3
      subst e3
      refine goX6_sizeOf hF 30 ?_
      simp (disch := omega) only [wX6_sizeOf_0, uX6_sizeOf_0, wX6_sizeOf_1, wX6_sizeOf_2, wX6_sizeOf_3, wX6_sizeOf_4, uX6_sizeOf_4, wX6_sizeOf_5, wX6_sizeOf_8, wX6_sizeOf_11, wX6_sizeOf_12, wX6_sizeOf_13, wX6_sizeOf_14, wX6_sizeOf_15, wX6_sizeOf_16, wX6_sizeOf_17, wX6_sizeOf_20, wX6_sizeOf_21, amSI_1, amSI_2, amSI_3, amSI_s, amU_at, amIsR_ref, amIsR_null, amIsR_rf, amRf_some, amRf_none, amClr_int, amClr_ref, amClr_null, amClr_long, amClr_ra, amClr_rf, amFit_int, amFit_oref, amFit_aref, amFit_onull, amFit_anull, amOptSome, amOptNone, List.cons_append, List.nil_append, true_and, and_true, true_implies, not_true_eq_false, not_false_eq_true, false_implies, and_self, Nat.add_zero, Nat.zero_add, ne_eq, Prod.mk.injEq, amC01_0, amC01_1, amC01_nb, amNb0, amNb1, amTcpI_d, Nat.reduceLeDiff, Nat.reduceAdd, Nat.reduceSub, Nat.reduceEqDiff, Nat.le_refl, amN0le, amLeI, amLtI, amEqI, amLe0, amGt0, amEq0, amNotPosI, amGe0, amVI, amCl_nI, amAdd, amSub, amMul]
      exact amRet.of (by decide) (by decide) hK
    | succ t ih =>
      intro y c e1 e2 e3
      by_cases z : y = 0
      · subst z
        rw [pop_0, Nat.add_zero] at e3
        subst e3
        refine goX6_sizeOf hF 30 ?_
        simp (disch := omega) only [wX6_sizeOf_0, uX6_sizeOf_0, wX6_sizeOf_1, wX6_sizeOf_2, wX6_sizeOf_3, wX6_sizeOf_4, uX6_sizeOf_4, wX6_sizeOf_5, wX6_sizeOf_8, wX6_sizeOf_11, wX6_sizeOf_12, wX6_sizeOf_13, wX6_sizeOf_14, wX6_sizeOf_15, wX6_sizeOf_16, wX6_sizeOf_17, wX6_sizeOf_20, wX6_sizeOf_21, amSI_1, amSI_2, amSI_3, amSI_s, amU_at, amIsR_ref, amIsR_null, amIsR_rf, amRf_some, amRf_none, amClr_int, amClr_ref, amClr_null, amClr_long, amClr_ra, amClr_rf, amFit_int, amFit_oref, amFit_aref, amFit_onull, amFit_anull, amOptSome, amOptNone, List.cons_append, List.nil_append, true_and, and_true, true_implies, not_true_eq_false, not_false_eq_true, false_implies, and_self, Nat.add_zero, Nat.zero_add, ne_eq, Prod.mk.injEq, amC01_0, amC01_1, amC01_nb, amNb0, amNb1, amTcpI_d, Nat.reduceLeDiff, Nat.reduceAdd, Nat.reduceSub, Nat.reduceEqDiff, Nat.le_refl, amN0le, amLeI, amLtI, amEqI, amLe0, amGt0, amEq0, amNotPosI, amGe0, amVI, amCl_nI, amAdd, amSub, amMul]
        exact amRet.of (by decide) (by decide) hK
      · have b : y &&& (y - 1) ≤ y - 1 := Nat.and_le_right
        have := pop_low e2 z
        have nx := ih (y &&& (y - 1)) (c + 1) (by omega) (by omega) (by omega)
        have z' : (y = 0) = False := eq_false z
        refine goX6_sizeOf hF 30 ?_
        simp (disch := omega) only [wX6_sizeOf_0, uX6_sizeOf_0, wX6_sizeOf_1, wX6_sizeOf_2, wX6_sizeOf_3, wX6_sizeOf_4, uX6_sizeOf_4, wX6_sizeOf_5, wX6_sizeOf_8, wX6_sizeOf_11, wX6_sizeOf_12, wX6_sizeOf_13, wX6_sizeOf_14, wX6_sizeOf_15, wX6_sizeOf_16, wX6_sizeOf_17, wX6_sizeOf_20, wX6_sizeOf_21, amSI_1, amSI_2, amSI_3, amSI_s, amU_at, amIsR_ref, amIsR_null, amIsR_rf, amRf_some, amRf_none, amClr_int, amClr_ref, amClr_null, amClr_long, amClr_ra, amClr_rf, amFit_int, amFit_oref, amFit_aref, amFit_onull, amFit_anull, amOptSome, amOptNone, List.cons_append, List.nil_append, true_and, and_true, true_implies, not_true_eq_false, not_false_eq_true, false_implies, and_self, Nat.add_zero, Nat.zero_add, ne_eq, Prod.mk.injEq, amC01_0, amC01_1, amC01_nb, amNb0, amNb1, amTcpI_d, Nat.reduceLeDiff, Nat.reduceAdd, Nat.reduceSub, Nat.reduceEqDiff, Nat.le_refl, amN0le, amLeI, amLtI, amEqI, amLe0, amGt0, amEq0, amNotPosI, amGe0, amVI, amCl_nI, amAdd, amSub, amMul, z', nx_and]
        exact nx
  refine goX6_sizeOf hF 30 ?_
  simp (disch := omega) only [wX6_sizeOf_0, uX6_sizeOf_0, wX6_sizeOf_1, wX6_sizeOf_2, wX6_sizeOf_3, wX6_sizeOf_4, uX6_sizeOf_4, wX6_sizeOf_5, wX6_sizeOf_8, wX6_sizeOf_11, wX6_sizeOf_12, wX6_sizeOf_13, wX6_sizeOf_14, wX6_sizeOf_15, wX6_sizeOf_16, wX6_sizeOf_17, wX6_sizeOf_20, wX6_sizeOf_21, amSI_1, amSI_2, amSI_3, amSI_s, amU_at, amIsR_ref, amIsR_null, amIsR_rf, amRf_some, amRf_none, amClr_int, amClr_ref, amClr_null, amClr_long, amClr_ra, amClr_rf, amFit_int, amFit_oref, amFit_aref, amFit_onull, amFit_anull, amOptSome, amOptNone, List.cons_append, List.nil_append, true_and, and_true, true_implies, not_true_eq_false, not_false_eq_true, false_implies, and_self, Nat.add_zero, Nat.zero_add, ne_eq, Prod.mk.injEq, amC01_0, amC01_1, amC01_nb, amNb0, amNb1, amTcpI_d, Nat.reduceLeDiff, Nat.reduceAdd, Nat.reduceSub, Nat.reduceEqDiff, Nat.le_refl, amN0le, amLeI, amLtI, amEqI, amLe0, amGt0, amEq0, amNotPosI, amGe0, amVI, amCl_nI, amAdd, amSub, amMul]
  exact loop n n 0 (Nat.le_refl _) hn (Nat.zero_add _)
theorem tX6_sizeOf_d {x : Int32} {h : amH} {K : Option Value → amH → Prop} : tX6_sizeOf [.int x] h K = ∃ n : Nat, x = nI n ∧ n < 1048576 ∧ K (some (.int (nI (pop n)))) h := rfl
theorem sizeOfN {n : Nat} {h : amH} {K : Option Value → amH → Prop} (hn : n < 1048576) : tX6_sizeOf [.int (nI n)] h K = K (some (.int (nI (pop n)))) h := by
  apply propext
  refine ⟨fun ⟨k, e, hk, q⟩ => ?_, fun q => ⟨n, rfl, hn, q⟩⟩
  have : n = k := (nI_eq (by omega) (by omega)).mp e
  rw [this]; exact q
def tX6_isSet : amT := fun as h K => match as with
  | [.int x] => K (some (.int (amC01 (lN 0 ≤ x.toInt64 ∧ x.toInt64 ≤ lN 1048575)))) h
  | _ => False
/-! ReadingStagesModel.isSet(I)Z -/
def kX6_isSet : Nat → Bool := fun pc => false
def rX6_isSet : List (Nat × amS) := [(3, 0, 0, 0, amTcon (.long (1048575))), (6, 3, 0, 0, tX6_in)]
def eX6_isSet (ret : Option Value → amH → Nat → Nat → Prop) (F : amX) : Nat → amX := amWp cX6_isSet kX6_isSet (amLk rX6_isSet) (some .boolean) 0 0 ret F
def sX6_isSet (ret : Option Value → amH → Nat → Nat → Prop) (F : amX) : Nat → amX := amWs cX6_isSet kX6_isSet (amLk rX6_isSet) (some .boolean) 0 0 ret F
theorem wX6_isSet_0 {ret F n h} {st x} : eX6_isSet ret F (n + 1) 0 [.int x] (st) h 0 0 = (eX6_isSet ret F n 1 [.int x] (.int x :: st) h 0 0) := (amWp_dec rfl dX6_isSet_0 rfl).trans rfl
theorem uX6_isSet_0 {ret F n h} {st x} : sX6_isSet ret F n 0 [.int x] (st) h 0 0 = (eX6_isSet ret F n 1 [.int x] (.int x :: st) h 0 0) := (amWs_dec dX6_isSet_0 rfl).trans rfl
theorem wX6_isSet_1 {ret F n h} {v0 st x} : eX6_isSet ret F (n + 1) 1 [v0] (.int x :: st) h 0 0 = (eX6_isSet ret F n 2 [v0] (.long x.toInt64 :: st) h 0 0) := (amWp_dec rfl dX6_isSet_1 rfl).trans rfl
theorem wX6_isSet_2 {ret F n h} {v0 st} : eX6_isSet ret F (n + 1) 2 [v0] (st) h 0 0 = (eX6_isSet ret F n 3 [v0] (.long (lN 0) :: st) h 0 0) := (amWp_dec rfl dX6_isSet_2 rfl).trans rfl
theorem wX6_isSet_3 {ret F n h} {v0 r0 r1} : eX6_isSet ret F (n + 1) 3 [v0] (r0 :: r1 :: []) h 0 0 = (eX6_isSet ret F n 6 [v0] (.long (lN 1048575) :: r0 :: r1 :: []) h 0 0) := (amWp_dec rfl dX6_isSet_3 rfl).trans (amS4 (Nat.le_of_ble_eq_true rfl) (Nat.le_of_ble_eq_true rfl) (Nat.le_of_ble_eq_true rfl) (Nat.le_of_ble_eq_true rfl))
theorem wX6_isSet_6 {ret F n h} {v0 x2 x1 x0} : eX6_isSet ret F (n + 1) 6 [v0] (.long x2 :: .long x1 :: .long x0 :: []) h 0 0 = (tX6_in [.long x0, .long x1, .long x2] h (fun v h => eX6_isSet ret F n 9 [v0] (v.toList ++ ([])) h 0 0)) := (amWp_dec rfl dX6_isSet_6 rfl).trans (amS4 (Nat.le_of_ble_eq_true rfl) (Nat.le_of_ble_eq_true rfl) (Nat.le_of_ble_eq_true rfl) (Nat.le_of_ble_eq_true rfl))
theorem wX6_isSet_9 {ret F n h} {v0 x} : eX6_isSet ret F (n + 1) 9 [v0] ([.int x]) h 0 0 = (narrow .boolean (.int x) = .int x ∧ ret (some (.int x)) h 0 0) := (amWp_dec rfl dX6_isSet_9 rfl).trans (amRetTy)
theorem evX6_isSet (l : Launch) (G : amG) : ∀ pc S i sz, amLk rX6_isSet pc = some S → decode cX6_isSet pc = .ok (i, sz) → amSiteP pc G l yX6_isSet.cls yX6_isSet.name yX6_isSet.desc (amRm 2 0 0) i sz S.1 S.2.1 S.2.2.1 S.2.2.2 := amLk_ok (by
  refine List.forall_mem_cons.mpr ⟨⟨_, _, dX6_isSet_3, amSite.P (amSiteLdc2 q1520)⟩, ?_⟩
  refine List.forall_mem_cons.mpr ⟨⟨_, _, dX6_isSet_6, amSite.P (amSiteS (metX6_in l G) rfl (by decide) (by decide) (lw_S q1381 q1382 q94 q1383) ⟨by decide +kernel, by decide +kernel, by decide +kernel⟩)⟩, ?_⟩
  exact fun _ h => absurd h List.not_mem_nil)
theorem goX6_isSet {ret F} (hF : amCld cX6_isSet kX6_isSet (amLk rX6_isSet) (some .boolean) 0 0 ret F) (n : Nat) {pc ls st h k z} (q : sX6_isSet ret F n pc ls st h k z) : F pc ls st h k z := hF.1 n pc ls st h k z q
theorem metX6_isSet (l : Launch) (G : amG) : amMet l G yX6_isSet (ws_ yX6_isSet cX6_isSet 1 (some .boolean)) 2 0 0 tX6_isSet := by
  refine amMet_of (cut := kX6_isSet) (by decide +kernel) (evX6_isSet l G) ?_
  intro as h K hT
  match as, hT with
  | [.int x], hK =>
  refine ⟨Nat.le_of_ble_eq_true rfl, fun F hF => ?_⟩
  show F 0 [.int x] [] h 0 0
  refine goX6_isSet hF 20 ?_
  simp (disch := omega) only [wX6_isSet_0, uX6_isSet_0, wX6_isSet_1, wX6_isSet_2, wX6_isSet_3, wX6_isSet_6, wX6_isSet_9, amSI_1, amSI_2, amSI_3, amSI_s, amU_at, amIsR_ref, amIsR_null, amIsR_rf, amRf_some, amRf_none, amClr_int, amClr_ref, amClr_null, amClr_long, amClr_ra, amClr_rf, amFit_int, amFit_oref, amFit_aref, amFit_onull, amFit_anull, amOptSome, amOptNone, List.cons_append, List.nil_append, true_and, and_true, true_implies, not_true_eq_false, not_false_eq_true, false_implies, and_self, Nat.add_zero, Nat.zero_add, ne_eq, Prod.mk.injEq, amC01_0, amC01_1, amC01_nb, amNb0, amNb1, amTcpI_d, Nat.reduceLeDiff, Nat.reduceAdd, Nat.reduceSub, Nat.reduceEqDiff, Nat.le_refl, amN0le, tX6_in_d]
  exact amRet.of (by decide) (by decide) hK
theorem tX6_isSet_d {x : Int32} {h : amH} {K : Option Value → amH → Prop} : tX6_isSet [.int x] h K = K (some (.int (amC01 (lN 0 ≤ x.toInt64 ∧ x.toInt64 ≤ lN 1048575)))) h := rfl
def tX6_isSheet : amT := fun as h K => match as with
  | [.int x] => K (some (.int (amC01 (lN 0 ≤ x.toInt64 ∧ x.toInt64 ≤ lN 3)))) h
  | _ => False
/-! ReadingStagesModel.isSheet(I)Z -/
def kX6_isSheet : Nat → Bool := fun pc => false
def rX6_isSheet : List (Nat × amS) := [(3, 0, 0, 0, amTcon (.long (3))), (6, 3, 0, 0, tX6_in)]
def eX6_isSheet (ret : Option Value → amH → Nat → Nat → Prop) (F : amX) : Nat → amX := amWp cX6_isSheet kX6_isSheet (amLk rX6_isSheet) (some .boolean) 0 0 ret F
def sX6_isSheet (ret : Option Value → amH → Nat → Nat → Prop) (F : amX) : Nat → amX := amWs cX6_isSheet kX6_isSheet (amLk rX6_isSheet) (some .boolean) 0 0 ret F
theorem wX6_isSheet_0 {ret F n h} {st x} : eX6_isSheet ret F (n + 1) 0 [.int x] (st) h 0 0 = (eX6_isSheet ret F n 1 [.int x] (.int x :: st) h 0 0) := (amWp_dec rfl dX6_isSheet_0 rfl).trans rfl
theorem uX6_isSheet_0 {ret F n h} {st x} : sX6_isSheet ret F n 0 [.int x] (st) h 0 0 = (eX6_isSheet ret F n 1 [.int x] (.int x :: st) h 0 0) := (amWs_dec dX6_isSheet_0 rfl).trans rfl
theorem wX6_isSheet_1 {ret F n h} {v0 st x} : eX6_isSheet ret F (n + 1) 1 [v0] (.int x :: st) h 0 0 = (eX6_isSheet ret F n 2 [v0] (.long x.toInt64 :: st) h 0 0) := (amWp_dec rfl dX6_isSheet_1 rfl).trans rfl
theorem wX6_isSheet_2 {ret F n h} {v0 st} : eX6_isSheet ret F (n + 1) 2 [v0] (st) h 0 0 = (eX6_isSheet ret F n 3 [v0] (.long (lN 0) :: st) h 0 0) := (amWp_dec rfl dX6_isSheet_2 rfl).trans rfl
theorem wX6_isSheet_3 {ret F n h} {v0 r0 r1} : eX6_isSheet ret F (n + 1) 3 [v0] (r0 :: r1 :: []) h 0 0 = (eX6_isSheet ret F n 6 [v0] (.long (lN 3) :: r0 :: r1 :: []) h 0 0) := (amWp_dec rfl dX6_isSheet_3 rfl).trans (amS4 (Nat.le_of_ble_eq_true rfl) (Nat.le_of_ble_eq_true rfl) (Nat.le_of_ble_eq_true rfl) (Nat.le_of_ble_eq_true rfl))
theorem wX6_isSheet_6 {ret F n h} {v0 x2 x1 x0} : eX6_isSheet ret F (n + 1) 6 [v0] (.long x2 :: .long x1 :: .long x0 :: []) h 0 0 = (tX6_in [.long x0, .long x1, .long x2] h (fun v h => eX6_isSheet ret F n 9 [v0] (v.toList ++ ([])) h 0 0)) := (amWp_dec rfl dX6_isSheet_6 rfl).trans (amS4 (Nat.le_of_ble_eq_true rfl) (Nat.le_of_ble_eq_true rfl) (Nat.le_of_ble_eq_true rfl) (Nat.le_of_ble_eq_true rfl))
theorem wX6_isSheet_9 {ret F n h} {v0 x} : eX6_isSheet ret F (n + 1) 9 [v0] ([.int x]) h 0 0 = (narrow .boolean (.int x) = .int x ∧ ret (some (.int x)) h 0 0) := (amWp_dec rfl dX6_isSheet_9 rfl).trans (amRetTy)
theorem evX6_isSheet (l : Launch) (G : amG) : ∀ pc S i sz, amLk rX6_isSheet pc = some S → decode cX6_isSheet pc = .ok (i, sz) → amSiteP pc G l yX6_isSheet.cls yX6_isSheet.name yX6_isSheet.desc (amRm 2 0 0) i sz S.1 S.2.1 S.2.2.1 S.2.2.2 := amLk_ok (by
  refine List.forall_mem_cons.mpr ⟨⟨_, _, dX6_isSheet_3, amSite.P (amSiteLdc2 q1688)⟩, ?_⟩
  refine List.forall_mem_cons.mpr ⟨⟨_, _, dX6_isSheet_6, amSite.P (amSiteS (metX6_in l G) rfl (by decide) (by decide) (lw_S q1381 q1382 q94 q1383) ⟨by decide +kernel, by decide +kernel, by decide +kernel⟩)⟩, ?_⟩
  exact fun _ h => absurd h List.not_mem_nil)
theorem goX6_isSheet {ret F} (hF : amCld cX6_isSheet kX6_isSheet (amLk rX6_isSheet) (some .boolean) 0 0 ret F) (n : Nat) {pc ls st h k z} (q : sX6_isSheet ret F n pc ls st h k z) : F pc ls st h k z := hF.1 n pc ls st h k z q
theorem metX6_isSheet (l : Launch) (G : amG) : amMet l G yX6_isSheet (ws_ yX6_isSheet cX6_isSheet 1 (some .boolean)) 2 0 0 tX6_isSheet := by
  refine amMet_of (cut := kX6_isSheet) (by decide +kernel) (evX6_isSheet l G) ?_
  intro as h K hT
  match as, hT with
  | [.int x], hK =>
  refine ⟨Nat.le_of_ble_eq_true rfl, fun F hF => ?_⟩
  show F 0 [.int x] [] h 0 0
  refine goX6_isSheet hF 20 ?_
  simp (disch := omega) only [wX6_isSheet_0, uX6_isSheet_0, wX6_isSheet_1, wX6_isSheet_2, wX6_isSheet_3, wX6_isSheet_6, wX6_isSheet_9, amSI_1, amSI_2, amSI_3, amSI_s, amU_at, amIsR_ref, amIsR_null, amIsR_rf, amRf_some, amRf_none, amClr_int, amClr_ref, amClr_null, amClr_long, amClr_ra, amClr_rf, amFit_int, amFit_oref, amFit_aref, amFit_onull, amFit_anull, amOptSome, amOptNone, List.cons_append, List.nil_append, true_and, and_true, true_implies, not_true_eq_false, not_false_eq_true, false_implies, and_self, Nat.add_zero, Nat.zero_add, ne_eq, Prod.mk.injEq, amC01_0, amC01_1, amC01_nb, amNb0, amNb1, amTcpI_d, Nat.reduceLeDiff, Nat.reduceAdd, Nat.reduceSub, Nat.reduceEqDiff, Nat.le_refl, amN0le, tX6_in_d]
  exact amRet.of (by decide) (by decide) hK
theorem tX6_isSheet_d {x : Int32} {h : amH} {K : Option Value → amH → Prop} : tX6_isSheet [.int x] h K = K (some (.int (amC01 (lN 0 ≤ x.toInt64 ∧ x.toInt64 ≤ lN 3)))) h := rfl
def tX6_isBook : amT := fun as h K => match as with
  | [.ref a, .int x] => a = (124 : Nat) ∧ mdAt h ∧ K (some (.int (amC01 (lN 0 ≤ x.toInt64 ∧ x.toInt64 ≤ (h.2.1 125 0 - nI 1).toInt64)))) h
  | _ => False
/-! ReadingStagesModel.isBook(I)Z -/
def kX6_isBook : Nat → Bool := fun pc => false
def rX6_isBook : List (Nat × amS) := [(4, 1, 0, 0, amTget 6 0), (12, 3, 0, 0, tX6_in)]
def eX6_isBook (ret : Option Value → amH → Nat → Nat → Prop) (F : amX) : Nat → amX := amWp cX6_isBook kX6_isBook (amLk rX6_isBook) (some .boolean) 0 0 ret F
def sX6_isBook (ret : Option Value → amH → Nat → Nat → Prop) (F : amX) : Nat → amX := amWs cX6_isBook kX6_isBook (amLk rX6_isBook) (some .boolean) 0 0 ret F
theorem wX6_isBook_0 {ret F n h} {v0 st x} : eX6_isBook ret F (n + 1) 0 [v0, .int x] (st) h 0 0 = (eX6_isBook ret F n 1 [v0, .int x] (.int x :: st) h 0 0) := (amWp_dec rfl dX6_isBook_0 rfl).trans rfl
theorem uX6_isBook_0 {ret F n h} {v0 st x} : sX6_isBook ret F n 0 [v0, .int x] (st) h 0 0 = (eX6_isBook ret F n 1 [v0, .int x] (.int x :: st) h 0 0) := (amWs_dec dX6_isBook_0 rfl).trans rfl
theorem wX6_isBook_1 {ret F n h} {v0 v1 st x} : eX6_isBook ret F (n + 1) 1 [v0, v1] (.int x :: st) h 0 0 = (eX6_isBook ret F n 2 [v0, v1] (.long x.toInt64 :: st) h 0 0) := (amWp_dec rfl dX6_isBook_1 rfl).trans rfl
theorem wX6_isBook_2 {ret F n h} {v0 v1 st} : eX6_isBook ret F (n + 1) 2 [v0, v1] (st) h 0 0 = (eX6_isBook ret F n 3 [v0, v1] (.long (lN 0) :: st) h 0 0) := (amWp_dec rfl dX6_isBook_2 rfl).trans rfl
theorem wX6_isBook_3 {ret F n h} {v0 v1 st} : eX6_isBook ret F (n + 1) 3 [v0, v1] (st) h 0 0 = (amIsR v0 ∧ eX6_isBook ret F n 4 [v0, v1] (v0 :: st) h 0 0) := (amWp_dec rfl dX6_isBook_3 rfl).trans rfl
theorem wX6_isBook_4 {ret F n h} {v0 v1 r0 r1 a} : eX6_isBook ret F (n + 1) 4 [v0, v1] (.ref a :: r0 :: r1 :: []) h 0 0 = (h.1 a = (0, 6) ∧ eX6_isBook ret F n 7 [v0, v1] (va_rf (h.2.2.2.1 a 0) :: r0 :: r1 :: []) h 0 0) := (amWp_dec rfl dX6_isBook_4 rfl).trans (amS4 (Nat.le_of_ble_eq_true rfl) (Nat.le_of_ble_eq_true rfl) (Nat.le_of_ble_eq_true rfl) (Nat.le_of_ble_eq_true rfl))
theorem wX6_isBook_7 {ret F n h} {v0 v1 st} : eX6_isBook ret F (n + 1) 7 [v0, v1] (st) h 0 0 = (eX6_isBook ret F n 8 [v0, v1] (.int (nI 0) :: st) h 0 0) := (amWp_dec rfl dX6_isBook_7 rfl).trans rfl
theorem wX6_isBook_8 {ret F n h} {v0 v1 st x a} : eX6_isBook ret F (n + 1) 8 [v0, v1] (.int x :: .ref a :: st) h 0 0 = ((h.1 a).1 = 1 ∧ vp_in x (h.1 a).2 ∧ eX6_isBook ret F n 9 [v0, v1] (.int (h.2.1 a x.toNatClampNeg) :: st) h 0 0) := (amWp_dec rfl dX6_isBook_8 rfl).trans rfl
theorem wX6_isBook_9 {ret F n h} {v0 v1 st} : eX6_isBook ret F (n + 1) 9 [v0, v1] (st) h 0 0 = (eX6_isBook ret F n 10 [v0, v1] (.int (nI 1) :: st) h 0 0) := (amWp_dec rfl dX6_isBook_9 rfl).trans rfl
theorem wX6_isBook_10 {ret F n h} {v0 v1 st y x} : eX6_isBook ret F (n + 1) 10 [v0, v1] (.int y :: .int x :: st) h 0 0 = (eX6_isBook ret F n 11 [v0, v1] (.int (x - y) :: st) h 0 0) := (amWp_dec rfl dX6_isBook_10 rfl).trans rfl
theorem wX6_isBook_11 {ret F n h} {v0 v1 st x} : eX6_isBook ret F (n + 1) 11 [v0, v1] (.int x :: st) h 0 0 = (eX6_isBook ret F n 12 [v0, v1] (.long x.toInt64 :: st) h 0 0) := (amWp_dec rfl dX6_isBook_11 rfl).trans rfl
theorem wX6_isBook_12 {ret F n h} {v0 v1 x2 x1 x0} : eX6_isBook ret F (n + 1) 12 [v0, v1] (.long x2 :: .long x1 :: .long x0 :: []) h 0 0 = (tX6_in [.long x0, .long x1, .long x2] h (fun v h => eX6_isBook ret F n 15 [v0, v1] (v.toList ++ ([])) h 0 0)) := (amWp_dec rfl dX6_isBook_12 rfl).trans (amS4 (Nat.le_of_ble_eq_true rfl) (Nat.le_of_ble_eq_true rfl) (Nat.le_of_ble_eq_true rfl) (Nat.le_of_ble_eq_true rfl))
theorem wX6_isBook_15 {ret F n h} {v0 v1 x} : eX6_isBook ret F (n + 1) 15 [v0, v1] ([.int x]) h 0 0 = (narrow .boolean (.int x) = .int x ∧ ret (some (.int x)) h 0 0) := (amWp_dec rfl dX6_isBook_15 rfl).trans (amRetTy)
theorem evX6_isBook (l : Launch) (G : amG) : ∀ pc S i sz, amLk rX6_isBook pc = some S → decode cX6_isBook pc = .ok (i, sz) → amSiteP pc G l yX6_isBook.cls yX6_isBook.name yX6_isBook.desc (amRm 2 0 0) i sz S.1 S.2.1 S.2.2.1 S.2.2.2 := amLk_ok (by
  refine List.forall_mem_cons.mpr ⟨⟨_, _, dX6_isBook_4, amSite.P (amSiteGet ⟨_, rfl, by decide, Or.inl q1295⟩)⟩, ?_⟩
  refine List.forall_mem_cons.mpr ⟨⟨_, _, dX6_isBook_12, amSite.P (amSiteS (metX6_in l G) rfl (by decide) (by decide) (lw_S q1381 q1382 q94 q1383) ⟨by decide +kernel, by decide +kernel, by decide +kernel⟩)⟩, ?_⟩
  exact fun _ h => absurd h List.not_mem_nil)
theorem goX6_isBook {ret F} (hF : amCld cX6_isBook kX6_isBook (amLk rX6_isBook) (some .boolean) 0 0 ret F) (n : Nat) {pc ls st h k z} (q : sX6_isBook ret F n pc ls st h k z) : F pc ls st h k z := hF.1 n pc ls st h k z q
theorem metX6_isBook (l : Launch) (G : amG) : amMet l G yX6_isBook (ws_ yX6_isBook cX6_isBook 2 (some .boolean)) 2 0 0 tX6_isBook := by
  refine amMet_of (cut := kX6_isBook) (by decide +kernel) (evX6_isBook l G) ?_
  intro as h K hT
  match as, hT with
  | [.ref a, .int x], ⟨e, hR, hK⟩ =>
  refine ⟨Nat.le_of_ble_eq_true rfl, fun F hF => ?_⟩
  show F 0 [.ref a, .int x] [] h 0 0
  obtain ⟨a, rfl⟩ : ∃ i : Nat, i = a := ⟨_, rfl⟩
  subst e
  refine goX6_isBook hF 20 ?_
  simp (disch := omega) only [wX6_isBook_0, uX6_isBook_0, wX6_isBook_1, wX6_isBook_2, wX6_isBook_3, wX6_isBook_4, wX6_isBook_7, wX6_isBook_8, wX6_isBook_9, wX6_isBook_10, wX6_isBook_11, wX6_isBook_12, wX6_isBook_15, amSI_1, amSI_2, amSI_3, amSI_s, amU_at, amIsR_ref, amIsR_null, amIsR_rf, amRf_some, amRf_none, amClr_int, amClr_ref, amClr_null, amClr_long, amClr_ra, amClr_rf, amFit_int, amFit_oref, amFit_aref, amFit_onull, amFit_anull, amOptSome, amOptNone, List.cons_append, List.nil_append, true_and, and_true, true_implies, not_true_eq_false, not_false_eq_true, false_implies, and_self, Nat.add_zero, Nat.zero_add, ne_eq, Prod.mk.injEq, amC01_0, amC01_1, amC01_nb, amNb0, amNb1, amTcpI_d, Nat.reduceLeDiff, Nat.reduceAdd, Nat.reduceSub, Nat.reduceEqDiff, Nat.le_refl, amN0le, hR.s, hR.r, amLeI, amLtI, amEqI, amLe0, amGt0, amEq0, amNotPosI, amGe0, amVI, amCl_nI, amAdd, amSub, amMul, tX6_in_d]
  exact amRet.of (by decide) (by decide) hK
theorem tX6_isBook_d {a : Nat} {x : Int32} {h : amH} {K : Option Value → amH → Prop} : tX6_isBook [.ref a, .int x] h K = (a = (124 : Nat) ∧ mdAt h ∧ K (some (.int (amC01 (lN 0 ≤ x.toInt64 ∧ x.toInt64 ≤ (h.2.1 125 0 - nI 1).toInt64)))) h) := rfl
def tX6_begins : amT := fun as h K => match as with
  | [.ref a] => a = (124 : Nat) ∧ mdAt h ∧ ∀ m', (∀ w : Nat, w < 20 → m' 135 w = nI 0) → (∀ i : Nat, i ≠ 135 → m' i = h.2.1 i) → K none (amSI h m')
  | _ => False
/-! ReadingStagesModel.begins()V -/
def kX6_begins : Nat → Bool := fun pc => pc == 2
def rX6_begins : List (Nat × amS) := [(9, 1, 0, 0, amTget 6 13)]
def eX6_begins (ret : Option Value → amH → Nat → Nat → Prop) (F : amX) : Nat → amX := amWp cX6_begins kX6_begins (amLk rX6_begins) none 0 0 ret F
def sX6_begins (ret : Option Value → amH → Nat → Nat → Prop) (F : amX) : Nat → amX := amWs cX6_begins kX6_begins (amLk rX6_begins) none 0 0 ret F
theorem wX6_begins_0 {ret F n h} {v0 v1 st} : eX6_begins ret F (n + 1) 0 [v0, v1] (st) h 0 0 = (eX6_begins ret F n 1 [v0, v1] (.int (nI 0) :: st) h 0 0) := (amWp_dec rfl dX6_begins_0 rfl).trans rfl
theorem uX6_begins_0 {ret F n h} {v0 v1 st} : sX6_begins ret F n 0 [v0, v1] (st) h 0 0 = (eX6_begins ret F n 1 [v0, v1] (.int (nI 0) :: st) h 0 0) := (amWs_dec dX6_begins_0 rfl).trans rfl
theorem wX6_begins_1 {ret F n h} {v0 v1 st x} : eX6_begins ret F (n + 1) 1 [v0, v1] (.int x :: st) h 0 0 = (eX6_begins ret F n 2 [amClr v0, .int x] (st) h 0 0) := (amWp_dec rfl dX6_begins_1 rfl).trans (amTrue (Nat.le_of_ble_eq_true rfl))
theorem wX6_begins_2 {ret F n ls st h k z} : eX6_begins ret F (n + 1) 2 ls st h k z = F 2 ls st h k z := amWp_cut rfl
theorem uX6_begins_2 {ret F n h} {v0 st x} : sX6_begins ret F n 2 [v0, .int x] (st) h 0 0 = (eX6_begins ret F n 3 [v0, .int x] (.int x :: st) h 0 0) := (amWs_dec dX6_begins_2 rfl).trans rfl
theorem wX6_begins_3 {ret F n h} {v0 v1 st} : eX6_begins ret F (n + 1) 3 [v0, v1] (st) h 0 0 = (eX6_begins ret F n 5 [v0, v1] (.int (nI 20) :: st) h 0 0) := (amWp_dec rfl dX6_begins_3 rfl).trans rfl
theorem wX6_begins_5 {ret F n h} {v0 v1 st y x} : eX6_begins ret F (n + 1) 5 [v0, v1] (.int y :: .int x :: st) h 0 0 = ((y ≤ x → eX6_begins ret F n 21 [v0, v1] (st) h 0 0) ∧ (¬ y ≤ x → eX6_begins ret F n 8 [v0, v1] (st) h 0 0)) := (amWp_dec rfl dX6_begins_5 rfl).trans rfl
theorem wX6_begins_8 {ret F n h} {v0 v1 st} : eX6_begins ret F (n + 1) 8 [v0, v1] (st) h 0 0 = (amIsR v0 ∧ eX6_begins ret F n 9 [v0, v1] (v0 :: st) h 0 0) := (amWp_dec rfl dX6_begins_8 rfl).trans rfl
theorem wX6_begins_9 {ret F n h} {v0 v1 a} : eX6_begins ret F (n + 1) 9 [v0, v1] (.ref a :: []) h 0 0 = (h.1 a = (0, 6) ∧ eX6_begins ret F n 12 [v0, v1] (va_rf (h.2.2.2.1 a 13) :: []) h 0 0) := (amWp_dec rfl dX6_begins_9 rfl).trans (amS4 (Nat.le_of_ble_eq_true rfl) (Nat.le_of_ble_eq_true rfl) (Nat.le_of_ble_eq_true rfl) (Nat.le_of_ble_eq_true rfl))
theorem wX6_begins_12 {ret F n h} {v0 st x} : eX6_begins ret F (n + 1) 12 [v0, .int x] (st) h 0 0 = (eX6_begins ret F n 13 [v0, .int x] (.int x :: st) h 0 0) := (amWp_dec rfl dX6_begins_12 rfl).trans rfl
theorem wX6_begins_13 {ret F n h} {v0 v1 st} : eX6_begins ret F (n + 1) 13 [v0, v1] (st) h 0 0 = (eX6_begins ret F n 14 [v0, v1] (.int (nI 0) :: st) h 0 0) := (amWp_dec rfl dX6_begins_13 rfl).trans rfl
theorem wX6_begins_14 {ret F n h} {v0 v1 st y x a} : eX6_begins ret F (n + 1) 14 [v0, v1] (.int y :: .int x :: .ref a :: st) h 0 0 = ((h.1 a).1 = 1 ∧ vp_in x (h.1 a).2 ∧ amN0 ≤ a ∧ eX6_begins ret F n 15 [v0, v1] (st) (amSI h (amU h.2.1 a x.toNatClampNeg y)) 0 0) := (amWp_dec rfl dX6_begins_14 rfl).trans rfl
theorem wX6_begins_15 {ret F n h} {v0 st x} : eX6_begins ret F (n + 1) 15 [v0, .int x] (st) h 0 0 = (eX6_begins ret F n 18 [amClr v0, .int (x + nI 1)] (st) h 0 0) := (amWp_dec rfl dX6_begins_15 rfl).trans rfl
theorem wX6_begins_18 {ret F n h} {v0 v1 st} : eX6_begins ret F (n + 1) 18 [v0, v1] (st) h 0 0 = (eX6_begins ret F n 2 [v0, v1] (st) h 0 0) := (amWp_dec rfl dX6_begins_18 rfl).trans rfl
theorem wX6_begins_21 {ret F n h} {v0 v1} : eX6_begins ret F (n + 1) 21 [v0, v1] ([]) h 0 0 = (ret none h 0 0) := (amWp_dec rfl dX6_begins_21 rfl).trans (amTrue rfl)
theorem evX6_begins (l : Launch) (G : amG) : ∀ pc S i sz, amLk rX6_begins pc = some S → decode cX6_begins pc = .ok (i, sz) → amSiteP pc G l yX6_begins.cls yX6_begins.name yX6_begins.desc (amRm 1 0 0) i sz S.1 S.2.1 S.2.2.1 S.2.2.2 := amLk_ok (by
  refine List.forall_mem_cons.mpr ⟨⟨_, _, dX6_begins_9, amSite.P (amSiteGet ⟨_, rfl, by decide, Or.inl q1308⟩)⟩, ?_⟩
  exact fun _ h => absurd h List.not_mem_nil)
theorem goX6_begins {ret F} (hF : amCld cX6_begins kX6_begins (amLk rX6_begins) none 0 0 ret F) (n : Nat) {pc ls st h k z} (q : sX6_begins ret F n pc ls st h k z) : F pc ls st h k z := hF.1 n pc ls st h k z q
theorem metX6_begins (l : Launch) (G : amG) : amMet l G yX6_begins (ws_ yX6_begins cX6_begins 2 none) 1 0 0 tX6_begins := by
  refine amMet_of (cut := kX6_begins) (by decide +kernel) (evX6_begins l G) ?_
  intro as h K hT
  match as, hT with
  | [.ref a], ⟨e, hR, hK⟩ =>
  refine ⟨Nat.le_of_ble_eq_true rfl, fun F hF => ?_⟩
  show F 0 [.ref a, .retAddr 0] [] h 0 0
  obtain ⟨a, rfl⟩ : ∃ i : Nat, i = a := ⟨_, rfl⟩
  subst e
  have loop : ∀ t p m, p + t = 20 → (∀ w : Nat, w < p → m 135 w = nI 0) → (∀ i : Nat, i ≠ 135 → m i = h.2.1 i) → F 2 [.ref 124, .int (nI p)] [] (amSI h m) 0 0 := by
    intro t
    induction t with
    | zero =>
      intro p m e1 i1 i2
      have e : p = 20 := by omega
      subst e
      refine goX6_begins hF 20 ?_
      simp (disch := omega) only [wX6_begins_0, uX6_begins_0, wX6_begins_1, wX6_begins_2, uX6_begins_2, wX6_begins_3, wX6_begins_5, wX6_begins_8, wX6_begins_9, wX6_begins_12, wX6_begins_13, wX6_begins_14, wX6_begins_15, wX6_begins_18, wX6_begins_21, amSI_1, amSI_2, amSI_3, amSI_s, amU_at, amIsR_ref, amIsR_null, amIsR_rf, amRf_some, amRf_none, amClr_int, amClr_ref, amClr_null, amClr_long, amClr_ra, amClr_rf, amFit_int, amFit_oref, amFit_aref, amFit_onull, amFit_anull, amOptSome, amOptNone, List.cons_append, List.nil_append, true_and, and_true, true_implies, not_true_eq_false, not_false_eq_true, false_implies, and_self, Nat.add_zero, Nat.zero_add, ne_eq, Prod.mk.injEq, amC01_0, amC01_1, amC01_nb, amNb0, amNb1, amTcpI_d, Nat.reduceLeDiff, Nat.reduceAdd, Nat.reduceSub, Nat.reduceEqDiff, Nat.le_refl, amN0le, hR.s, hR.r, amLeI, amLtI, amEqI, amLe0, amGt0, amEq0, amNotPosI, amGe0, amVI, amCl_nI, amAdd, amSub, amMul]
      exact amRet.of (by decide) (by decide) (hK m i1 i2)
    | succ t ih =>
      intro p m e1 i1 i2
      have q : (20 ≤ p) = False := eq_false (by omega)
      have nx := ih (p + 1) (amU m 135 p (nI 0)) (by omega) (fun w hw => by
        by_cases e : w = p
        · subst e; simp (disch := omega) only [amU_at, amU_ne, amU_nj, amU_neR, up_ne, up_at, amSI_2]
        · simp (disch := omega) only [amU_at, amU_ne, amU_nj, amU_neR, up_ne, up_at, amSI_2]
          exact i1 w (by omega)) (fun i hi => by
        simp (disch := omega) only [amU_at, amU_ne, amU_nj, amU_neR, up_ne, up_at, amSI_2]
        exact i2 i hi)
      refine goX6_begins hF 20 ?_
      simp (disch := omega) only [wX6_begins_0, uX6_begins_0, wX6_begins_1, wX6_begins_2, uX6_begins_2, wX6_begins_3, wX6_begins_5, wX6_begins_8, wX6_begins_9, wX6_begins_12, wX6_begins_13, wX6_begins_14, wX6_begins_15, wX6_begins_18, wX6_begins_21, amSI_1, amSI_2, amSI_3, amSI_s, amU_at, amIsR_ref, amIsR_null, amIsR_rf, amRf_some, amRf_none, amClr_int, amClr_ref, amClr_null, amClr_long, amClr_ra, amClr_rf, amFit_int, amFit_oref, amFit_aref, amFit_onull, amFit_anull, amOptSome, amOptNone, List.cons_append, List.nil_append, true_and, and_true, true_implies, not_true_eq_false, not_false_eq_true, false_implies, and_self, Nat.add_zero, Nat.zero_add, ne_eq, Prod.mk.injEq, amC01_0, amC01_1, amC01_nb, amNb0, amNb1, amTcpI_d, Nat.reduceLeDiff, Nat.reduceAdd, Nat.reduceSub, Nat.reduceEqDiff, Nat.le_refl, amN0le, hR.s, hR.r, amLeI, amLtI, amEqI, amLe0, amGt0, amEq0, amNotPosI, amGe0, amVI, amCl_nI, amAdd, amSub, amMul, q]
      exact nx
  refine goX6_begins hF 20 ?_
  simp (disch := omega) only [wX6_begins_0, uX6_begins_0, wX6_begins_1, wX6_begins_2, uX6_begins_2, wX6_begins_3, wX6_begins_5, wX6_begins_8, wX6_begins_9, wX6_begins_12, wX6_begins_13, wX6_begins_14, wX6_begins_15, wX6_begins_18, wX6_begins_21, amSI_1, amSI_2, amSI_3, amSI_s, amU_at, amIsR_ref, amIsR_null, amIsR_rf, amRf_some, amRf_none, amClr_int, amClr_ref, amClr_null, amClr_long, amClr_ra, amClr_rf, amFit_int, amFit_oref, amFit_aref, amFit_onull, amFit_anull, amOptSome, amOptNone, List.cons_append, List.nil_append, true_and, and_true, true_implies, not_true_eq_false, not_false_eq_true, false_implies, and_self, Nat.add_zero, Nat.zero_add, ne_eq, Prod.mk.injEq, amC01_0, amC01_1, amC01_nb, amNb0, amNb1, amTcpI_d, Nat.reduceLeDiff, Nat.reduceAdd, Nat.reduceSub, Nat.reduceEqDiff, Nat.le_refl, amN0le, hR.s, hR.r]
  exact loop 20 0 h.2.1 (by omega) (fun w hw => absurd hw (Nat.not_lt_zero w)) (fun i _ => rfl)
theorem tX6_begins_d {a : Nat} {h : amH} {K : Option Value → amH → Prop} : tX6_begins [.ref a] h K = (a = (124 : Nat) ∧ mdAt h ∧ ∀ m', (∀ w : Nat, w < 20 → m' 135 w = nI 0) → (∀ i : Nat, i ≠ 135 → m' i = h.2.1 i) → K none (amSI h m')) := rfl
theorem lasts2 (span s : Nat) : span * 2 ^ (s + 1 - 1) * 2 = span * 2 ^ (s + 1) := by rw [Nat.add_sub_cancel, Nat.pow_succ, Nat.mul_assoc]
def tX6_lasts : amT := fun as h K => match as with
  | [.ref a, .int m0] => ∃ (S : HS) (s : Nat), a = (124 : Nat) ∧ mdAt h ∧ RwIs h.2.1 125 0 S ∧ hsB S ∧ m0 = nI s ∧ 1 ≤ s ∧ s ≤ 9 ∧ K (some (.int (nI (lastsN S.span S.rule s)))) h
  | _ => False
/-! ReadingStagesModel.lasts(I)I -/
def kX6_lasts : Nat → Bool := fun pc => pc == 23
def rX6_lasts : List (Nat × amS) := [(1, 1, 0, 0, amTget 6 0), (8, 1, 0, 0, amTget 6 0), (29, 1, 0, 0, amTget 6 0)]
def eX6_lasts (ret : Option Value → amH → Nat → Nat → Prop) (F : amX) : Nat → amX := amWp cX6_lasts kX6_lasts (amLk rX6_lasts) (some .int) 0 0 ret F
def sX6_lasts (ret : Option Value → amH → Nat → Nat → Prop) (F : amX) : Nat → amX := amWs cX6_lasts kX6_lasts (amLk rX6_lasts) (some .int) 0 0 ret F
theorem wX6_lasts_0 {ret F n h} {v0 v1 v2 v3 st} : eX6_lasts ret F (n + 1) 0 [v0, v1, v2, v3] (st) h 0 0 = (amIsR v0 ∧ eX6_lasts ret F n 1 [v0, v1, v2, v3] (v0 :: st) h 0 0) := (amWp_dec rfl dX6_lasts_0 rfl).trans rfl
theorem uX6_lasts_0 {ret F n h} {v0 v1 v2 v3 st} : sX6_lasts ret F n 0 [v0, v1, v2, v3] (st) h 0 0 = (amIsR v0 ∧ eX6_lasts ret F n 1 [v0, v1, v2, v3] (v0 :: st) h 0 0) := (amWs_dec dX6_lasts_0 rfl).trans rfl
theorem wX6_lasts_1 {ret F n h} {v0 v1 v2 v3 a} : eX6_lasts ret F (n + 1) 1 [v0, v1, v2, v3] (.ref a :: []) h 0 0 = (h.1 a = (0, 6) ∧ eX6_lasts ret F n 4 [v0, v1, v2, v3] (va_rf (h.2.2.2.1 a 0) :: []) h 0 0) := (amWp_dec rfl dX6_lasts_1 rfl).trans (amS4 (Nat.le_of_ble_eq_true rfl) (Nat.le_of_ble_eq_true rfl) (Nat.le_of_ble_eq_true rfl) (Nat.le_of_ble_eq_true rfl))
theorem wX6_lasts_4 {ret F n h} {v0 v1 v2 v3 st} : eX6_lasts ret F (n + 1) 4 [v0, v1, v2, v3] (st) h 0 0 = (eX6_lasts ret F n 5 [v0, v1, v2, v3] (.int (nI 2) :: st) h 0 0) := (amWp_dec rfl dX6_lasts_4 rfl).trans rfl
theorem wX6_lasts_5 {ret F n h} {v0 v1 v2 v3 st x a} : eX6_lasts ret F (n + 1) 5 [v0, v1, v2, v3] (.int x :: .ref a :: st) h 0 0 = ((h.1 a).1 = 1 ∧ vp_in x (h.1 a).2 ∧ eX6_lasts ret F n 6 [v0, v1, v2, v3] (.int (h.2.1 a x.toNatClampNeg) :: st) h 0 0) := (amWp_dec rfl dX6_lasts_5 rfl).trans rfl
theorem wX6_lasts_6 {ret F n h} {v0 v1 v2 v3 st x} : eX6_lasts ret F (n + 1) 6 [v0, v1, v2, v3] (.int x :: st) h 0 0 = (eX6_lasts ret F n 7 [v0, amClr v1, .int x, v3] (st) h 0 0) := (amWp_dec rfl dX6_lasts_6 rfl).trans (amTrue (Nat.le_of_ble_eq_true rfl))
theorem wX6_lasts_7 {ret F n h} {v0 v1 v2 v3 st} : eX6_lasts ret F (n + 1) 7 [v0, v1, v2, v3] (st) h 0 0 = (amIsR v0 ∧ eX6_lasts ret F n 8 [v0, v1, v2, v3] (v0 :: st) h 0 0) := (amWp_dec rfl dX6_lasts_7 rfl).trans rfl
theorem wX6_lasts_8 {ret F n h} {v0 v1 v2 v3 a} : eX6_lasts ret F (n + 1) 8 [v0, v1, v2, v3] (.ref a :: []) h 0 0 = (h.1 a = (0, 6) ∧ eX6_lasts ret F n 11 [v0, v1, v2, v3] (va_rf (h.2.2.2.1 a 0) :: []) h 0 0) := (amWp_dec rfl dX6_lasts_8 rfl).trans (amS4 (Nat.le_of_ble_eq_true rfl) (Nat.le_of_ble_eq_true rfl) (Nat.le_of_ble_eq_true rfl) (Nat.le_of_ble_eq_true rfl))
theorem wX6_lasts_11 {ret F n h} {v0 v1 v2 v3 st} : eX6_lasts ret F (n + 1) 11 [v0, v1, v2, v3] (st) h 0 0 = (eX6_lasts ret F n 12 [v0, v1, v2, v3] (.int (nI 4) :: st) h 0 0) := (amWp_dec rfl dX6_lasts_11 rfl).trans rfl
theorem wX6_lasts_12 {ret F n h} {v0 v1 v2 v3 st x a} : eX6_lasts ret F (n + 1) 12 [v0, v1, v2, v3] (.int x :: .ref a :: st) h 0 0 = ((h.1 a).1 = 1 ∧ vp_in x (h.1 a).2 ∧ eX6_lasts ret F n 13 [v0, v1, v2, v3] (.int (h.2.1 a x.toNatClampNeg) :: st) h 0 0) := (amWp_dec rfl dX6_lasts_12 rfl).trans rfl
theorem wX6_lasts_13 {ret F n h} {v0 v1 v2 v3 st} : eX6_lasts ret F (n + 1) 13 [v0, v1, v2, v3] (st) h 0 0 = (eX6_lasts ret F n 14 [v0, v1, v2, v3] (.int (nI 1) :: st) h 0 0) := (amWp_dec rfl dX6_lasts_13 rfl).trans rfl
theorem wX6_lasts_14 {ret F n h} {v0 v1 v2 v3 st y x} : eX6_lasts ret F (n + 1) 14 [v0, v1, v2, v3] (.int y :: .int x :: st) h 0 0 = ((¬ x = y → eX6_lasts ret F n 21 [v0, v1, v2, v3] (st) h 0 0) ∧ (x = y → eX6_lasts ret F n 17 [v0, v1, v2, v3] (st) h 0 0)) := (amWp_dec rfl dX6_lasts_14 rfl).trans rfl
theorem wX6_lasts_17 {ret F n h} {v0 v1 v3 st x} : eX6_lasts ret F (n + 1) 17 [v0, v1, .int x, v3] (st) h 0 0 = (eX6_lasts ret F n 18 [v0, v1, .int x, v3] (.int x :: st) h 0 0) := (amWp_dec rfl dX6_lasts_17 rfl).trans rfl
theorem wX6_lasts_18 {ret F n h} {v0 v2 v3 st x} : eX6_lasts ret F (n + 1) 18 [v0, .int x, v2, v3] (st) h 0 0 = (eX6_lasts ret F n 19 [v0, .int x, v2, v3] (.int x :: st) h 0 0) := (amWp_dec rfl dX6_lasts_18 rfl).trans rfl
theorem wX6_lasts_19 {ret F n h} {v0 v1 v2 v3 st y x} : eX6_lasts ret F (n + 1) 19 [v0, v1, v2, v3] (.int y :: .int x :: st) h 0 0 = (eX6_lasts ret F n 20 [v0, v1, v2, v3] (.int (x * y) :: st) h 0 0) := (amWp_dec rfl dX6_lasts_19 rfl).trans rfl
theorem wX6_lasts_20 {ret F n h} {v0 v1 v2 v3 st x} : eX6_lasts ret F (n + 1) 20 [v0, v1, v2, v3] (.int x :: st) h 0 0 = (eX6_lasts ret F n 21 [v0, amClr v1, .int x, v3] (st) h 0 0) := (amWp_dec rfl dX6_lasts_20 rfl).trans (amTrue (Nat.le_of_ble_eq_true rfl))
theorem wX6_lasts_21 {ret F n h} {v0 v1 v2 v3 st} : eX6_lasts ret F (n + 1) 21 [v0, v1, v2, v3] (st) h 0 0 = (eX6_lasts ret F n 22 [v0, v1, v2, v3] (.int (nI 1) :: st) h 0 0) := (amWp_dec rfl dX6_lasts_21 rfl).trans rfl
theorem wX6_lasts_22 {ret F n h} {v0 v1 v2 v3 st x} : eX6_lasts ret F (n + 1) 22 [v0, v1, v2, v3] (.int x :: st) h 0 0 = (eX6_lasts ret F n 23 [v0, v1, amClr v2, .int x] (st) h 0 0) := (amWp_dec rfl dX6_lasts_22 rfl).trans (amTrue (Nat.le_of_ble_eq_true rfl))
theorem wX6_lasts_23 {ret F n ls st h k z} : eX6_lasts ret F (n + 1) 23 ls st h k z = F 23 ls st h k z := amWp_cut rfl
theorem uX6_lasts_23 {ret F n h} {v0 v1 v2 st x} : sX6_lasts ret F n 23 [v0, v1, v2, .int x] (st) h 0 0 = (eX6_lasts ret F n 24 [v0, v1, v2, .int x] (.int x :: st) h 0 0) := (amWs_dec dX6_lasts_23 rfl).trans rfl
theorem wX6_lasts_24 {ret F n h} {v0 v2 v3 st x} : eX6_lasts ret F (n + 1) 24 [v0, .int x, v2, v3] (st) h 0 0 = (eX6_lasts ret F n 25 [v0, .int x, v2, v3] (.int x :: st) h 0 0) := (amWp_dec rfl dX6_lasts_24 rfl).trans rfl
theorem wX6_lasts_25 {ret F n h} {v0 v1 v2 v3 st y x} : eX6_lasts ret F (n + 1) 25 [v0, v1, v2, v3] (.int y :: .int x :: st) h 0 0 = ((y ≤ x → eX6_lasts ret F n 48 [v0, v1, v2, v3] (st) h 0 0) ∧ (¬ y ≤ x → eX6_lasts ret F n 28 [v0, v1, v2, v3] (st) h 0 0)) := (amWp_dec rfl dX6_lasts_25 rfl).trans rfl
theorem wX6_lasts_28 {ret F n h} {v0 v1 v2 v3 st} : eX6_lasts ret F (n + 1) 28 [v0, v1, v2, v3] (st) h 0 0 = (amIsR v0 ∧ eX6_lasts ret F n 29 [v0, v1, v2, v3] (v0 :: st) h 0 0) := (amWp_dec rfl dX6_lasts_28 rfl).trans rfl
theorem wX6_lasts_29 {ret F n h} {v0 v1 v2 v3 a} : eX6_lasts ret F (n + 1) 29 [v0, v1, v2, v3] (.ref a :: []) h 0 0 = (h.1 a = (0, 6) ∧ eX6_lasts ret F n 32 [v0, v1, v2, v3] (va_rf (h.2.2.2.1 a 0) :: []) h 0 0) := (amWp_dec rfl dX6_lasts_29 rfl).trans (amS4 (Nat.le_of_ble_eq_true rfl) (Nat.le_of_ble_eq_true rfl) (Nat.le_of_ble_eq_true rfl) (Nat.le_of_ble_eq_true rfl))
theorem wX6_lasts_32 {ret F n h} {v0 v1 v2 v3 st} : eX6_lasts ret F (n + 1) 32 [v0, v1, v2, v3] (st) h 0 0 = (eX6_lasts ret F n 33 [v0, v1, v2, v3] (.int (nI 4) :: st) h 0 0) := (amWp_dec rfl dX6_lasts_32 rfl).trans rfl
theorem wX6_lasts_33 {ret F n h} {v0 v1 v2 v3 st x a} : eX6_lasts ret F (n + 1) 33 [v0, v1, v2, v3] (.int x :: .ref a :: st) h 0 0 = ((h.1 a).1 = 1 ∧ vp_in x (h.1 a).2 ∧ eX6_lasts ret F n 34 [v0, v1, v2, v3] (.int (h.2.1 a x.toNatClampNeg) :: st) h 0 0) := (amWp_dec rfl dX6_lasts_33 rfl).trans rfl
theorem wX6_lasts_34 {ret F n h} {v0 v1 v2 v3 st} : eX6_lasts ret F (n + 1) 34 [v0, v1, v2, v3] (st) h 0 0 = (eX6_lasts ret F n 35 [v0, v1, v2, v3] (.int (nI 2) :: st) h 0 0) := (amWp_dec rfl dX6_lasts_34 rfl).trans rfl
theorem wX6_lasts_35 {ret F n h} {v0 v1 v2 v3 st y x} : eX6_lasts ret F (n + 1) 35 [v0, v1, v2, v3] (.int y :: .int x :: st) h 0 0 = ((¬ x = y → eX6_lasts ret F n 48 [v0, v1, v2, v3] (st) h 0 0) ∧ (x = y → eX6_lasts ret F n 38 [v0, v1, v2, v3] (st) h 0 0)) := (amWp_dec rfl dX6_lasts_35 rfl).trans rfl
theorem wX6_lasts_38 {ret F n h} {v0 v1 v3 st x} : eX6_lasts ret F (n + 1) 38 [v0, v1, .int x, v3] (st) h 0 0 = (eX6_lasts ret F n 39 [v0, v1, .int x, v3] (.int x :: st) h 0 0) := (amWp_dec rfl dX6_lasts_38 rfl).trans rfl
theorem wX6_lasts_39 {ret F n h} {v0 v1 v2 v3 st} : eX6_lasts ret F (n + 1) 39 [v0, v1, v2, v3] (st) h 0 0 = (eX6_lasts ret F n 40 [v0, v1, v2, v3] (.int (nI 2) :: st) h 0 0) := (amWp_dec rfl dX6_lasts_39 rfl).trans rfl
theorem wX6_lasts_40 {ret F n h} {v0 v1 v2 v3 st y x} : eX6_lasts ret F (n + 1) 40 [v0, v1, v2, v3] (.int y :: .int x :: st) h 0 0 = (eX6_lasts ret F n 41 [v0, v1, v2, v3] (.int (x * y) :: st) h 0 0) := (amWp_dec rfl dX6_lasts_40 rfl).trans rfl
theorem wX6_lasts_41 {ret F n h} {v0 v1 v2 v3 st x} : eX6_lasts ret F (n + 1) 41 [v0, v1, v2, v3] (.int x :: st) h 0 0 = (eX6_lasts ret F n 42 [v0, amClr v1, .int x, v3] (st) h 0 0) := (amWp_dec rfl dX6_lasts_41 rfl).trans (amTrue (Nat.le_of_ble_eq_true rfl))
theorem wX6_lasts_42 {ret F n h} {v0 v1 v2 st x} : eX6_lasts ret F (n + 1) 42 [v0, v1, v2, .int x] (st) h 0 0 = (eX6_lasts ret F n 45 [v0, v1, amClr v2, .int (x + nI 1)] (st) h 0 0) := (amWp_dec rfl dX6_lasts_42 rfl).trans rfl
theorem wX6_lasts_45 {ret F n h} {v0 v1 v2 v3 st} : eX6_lasts ret F (n + 1) 45 [v0, v1, v2, v3] (st) h 0 0 = (eX6_lasts ret F n 23 [v0, v1, v2, v3] (st) h 0 0) := (amWp_dec rfl dX6_lasts_45 rfl).trans rfl
theorem wX6_lasts_48 {ret F n h} {v0 v1 v3 st x} : eX6_lasts ret F (n + 1) 48 [v0, v1, .int x, v3] (st) h 0 0 = (eX6_lasts ret F n 49 [v0, v1, .int x, v3] (.int x :: st) h 0 0) := (amWp_dec rfl dX6_lasts_48 rfl).trans rfl
theorem wX6_lasts_49 {ret F n h} {v0 v1 v2 v3 x} : eX6_lasts ret F (n + 1) 49 [v0, v1, v2, v3] ([.int x]) h 0 0 = (ret (some (.int x)) h 0 0) := (amWp_dec rfl dX6_lasts_49 rfl).trans (amTrue ⟨_, rfl, rfl⟩)
theorem evX6_lasts (l : Launch) (G : amG) : ∀ pc S i sz, amLk rX6_lasts pc = some S → decode cX6_lasts pc = .ok (i, sz) → amSiteP pc G l yX6_lasts.cls yX6_lasts.name yX6_lasts.desc (amRm 1 0 0) i sz S.1 S.2.1 S.2.2.1 S.2.2.2 := amLk_ok (by
  refine List.forall_mem_cons.mpr ⟨⟨_, _, dX6_lasts_1, amSite.P (amSiteGet ⟨_, rfl, by decide, Or.inl q1295⟩)⟩, ?_⟩
  refine List.forall_mem_cons.mpr ⟨⟨_, _, dX6_lasts_8, amSite.P (amSiteGet ⟨_, rfl, by decide, Or.inl q1295⟩)⟩, ?_⟩
  refine List.forall_mem_cons.mpr ⟨⟨_, _, dX6_lasts_29, amSite.P (amSiteGet ⟨_, rfl, by decide, Or.inl q1295⟩)⟩, ?_⟩
  exact fun _ h => absurd h List.not_mem_nil)
theorem goX6_lasts {ret F} (hF : amCld cX6_lasts kX6_lasts (amLk rX6_lasts) (some .int) 0 0 ret F) (n : Nat) {pc ls st h k z} (q : sX6_lasts ret F n pc ls st h k z) : F pc ls st h k z := hF.1 n pc ls st h k z q
theorem metX6_lasts (l : Launch) (G : amG) : amMet l G yX6_lasts (ws_ yX6_lasts cX6_lasts 4 (some .int)) 1 0 0 tX6_lasts := by
  refine amMet_of (cut := kX6_lasts) (by decide +kernel) (evX6_lasts l G) ?_
  intro as h K hT
  match as, hT with
  | [.ref a, .int m0], ⟨S, s, e, hR, hS, hB, e1, s1, s9, hK⟩ =>
  refine ⟨Nat.le_of_ble_eq_true rfl, fun F hF => ?_⟩
  show F 0 [.ref a, .int m0, .retAddr 0, .retAddr 0] [] h 0 0
  obtain ⟨a, rfl⟩ : ∃ i : Nat, i = a := ⟨_, rfl⟩
  subst e; subst e1
  obtain ⟨hB1, hB2, hB3, -⟩ := hB
  have hsp : h.2.1 125 2 = nI S.span := hS.span
  have hru : h.2.1 125 4 = nI S.rule := hS.rule
  have pw : ∀ k, k ≤ 8 → S.span * 2 ^ k ≤ 1024 := fun k hk => by
    have h3 : 2 ^ k ≤ 2 ^ 8 := Nat.pow_le_pow_right (by decide) hk
    have : S.span * 2 ^ k ≤ 4 * 2 ^ 8 := Nat.mul_le_mul hB2 h3
    omega
  by_cases r2 : S.rule = 2
  · have hl : lastsN S.span S.rule s = S.span * 2 ^ (s - 1) := by simp [lastsN, r2]
    rw [hl] at hK
    rw [r2] at hru
    have loop : ∀ t k, (k + 1) + t = s → F 23 [.ref 124, .int (nI s), .int (nI (S.span * 2 ^ k)), .int (nI (k + 1))] [] h 0 0 := by
      intro t
      induction t with
      | zero =>
        intro k e1
        have e : s = k + 1 := by omega
        subst e
        refine goX6_lasts hF 30 ?_
        simp (disch := omega) only [wX6_lasts_0, uX6_lasts_0, wX6_lasts_1, wX6_lasts_4, wX6_lasts_5, wX6_lasts_6, wX6_lasts_7, wX6_lasts_8, wX6_lasts_11, wX6_lasts_12, wX6_lasts_13, wX6_lasts_14, wX6_lasts_17, wX6_lasts_18, wX6_lasts_19, wX6_lasts_20, wX6_lasts_21, wX6_lasts_22, wX6_lasts_23, uX6_lasts_23, wX6_lasts_24, wX6_lasts_25, wX6_lasts_28, wX6_lasts_29, wX6_lasts_32, wX6_lasts_33, wX6_lasts_34, wX6_lasts_35, wX6_lasts_38, wX6_lasts_39, wX6_lasts_40, wX6_lasts_41, wX6_lasts_42, wX6_lasts_45, wX6_lasts_48, wX6_lasts_49, amSI_1, amSI_2, amSI_3, amSI_s, amU_at, amIsR_ref, amIsR_null, amIsR_rf, amRf_some, amRf_none, amClr_int, amClr_ref, amClr_null, amClr_long, amClr_ra, amClr_rf, amFit_int, amFit_oref, amFit_aref, amFit_onull, amFit_anull, amOptSome, amOptNone, List.cons_append, List.nil_append, true_and, and_true, true_implies, not_true_eq_false, not_false_eq_true, false_implies, and_self, Nat.add_zero, Nat.zero_add, ne_eq, Prod.mk.injEq, amC01_0, amC01_1, amC01_nb, amNb0, amNb1, amTcpI_d, Nat.reduceLeDiff, Nat.reduceAdd, Nat.reduceSub, Nat.reduceEqDiff, Nat.le_refl, amN0le, hR.s, hR.r, amLeI, amLtI, amEqI, amLe0, amGt0, amEq0, amNotPosI, amGe0, amVI, amCl_nI, amAdd, amSub, amMul]
        exact amRet.of (by decide) (by decide) hK
      | succ t ih =>
        intro k e1
        have q : (s ≤ k + 1) = False := eq_false (by omega)
        have nx := ih (k + 1) (by omega)
        rw [Nat.pow_succ, ← Nat.mul_assoc] at nx
        refine goX6_lasts hF 30 ?_
        simp (disch := omega) only [wX6_lasts_0, uX6_lasts_0, wX6_lasts_1, wX6_lasts_4, wX6_lasts_5, wX6_lasts_6, wX6_lasts_7, wX6_lasts_8, wX6_lasts_11, wX6_lasts_12, wX6_lasts_13, wX6_lasts_14, wX6_lasts_17, wX6_lasts_18, wX6_lasts_19, wX6_lasts_20, wX6_lasts_21, wX6_lasts_22, wX6_lasts_23, uX6_lasts_23, wX6_lasts_24, wX6_lasts_25, wX6_lasts_28, wX6_lasts_29, wX6_lasts_32, wX6_lasts_33, wX6_lasts_34, wX6_lasts_35, wX6_lasts_38, wX6_lasts_39, wX6_lasts_40, wX6_lasts_41, wX6_lasts_42, wX6_lasts_45, wX6_lasts_48, wX6_lasts_49, amSI_1, amSI_2, amSI_3, amSI_s, amU_at, amIsR_ref, amIsR_null, amIsR_rf, amRf_some, amRf_none, amClr_int, amClr_ref, amClr_null, amClr_long, amClr_ra, amClr_rf, amFit_int, amFit_oref, amFit_aref, amFit_onull, amFit_anull, amOptSome, amOptNone, List.cons_append, List.nil_append, true_and, and_true, true_implies, not_true_eq_false, not_false_eq_true, false_implies, and_self, Nat.add_zero, Nat.zero_add, ne_eq, Prod.mk.injEq, amC01_0, amC01_1, amC01_nb, amNb0, amNb1, amTcpI_d, Nat.reduceLeDiff, Nat.reduceAdd, Nat.reduceSub, Nat.reduceEqDiff, Nat.le_refl, amN0le, hR.s, hR.r, amLeI, amLtI, amEqI, amLe0, amGt0, amEq0, amNotPosI, amGe0, amVI, amCl_nI, amAdd, amSub, amMul, q, hru]
        exact nx
    refine goX6_lasts hF 30 ?_
    simp (disch := omega) only [wX6_lasts_0, uX6_lasts_0, wX6_lasts_1, wX6_lasts_4, wX6_lasts_5, wX6_lasts_6, wX6_lasts_7, wX6_lasts_8, wX6_lasts_11, wX6_lasts_12, wX6_lasts_13, wX6_lasts_14, wX6_lasts_17, wX6_lasts_18, wX6_lasts_19, wX6_lasts_20, wX6_lasts_21, wX6_lasts_22, wX6_lasts_23, uX6_lasts_23, wX6_lasts_24, wX6_lasts_25, wX6_lasts_28, wX6_lasts_29, wX6_lasts_32, wX6_lasts_33, wX6_lasts_34, wX6_lasts_35, wX6_lasts_38, wX6_lasts_39, wX6_lasts_40, wX6_lasts_41, wX6_lasts_42, wX6_lasts_45, wX6_lasts_48, wX6_lasts_49, amSI_1, amSI_2, amSI_3, amSI_s, amU_at, amIsR_ref, amIsR_null, amIsR_rf, amRf_some, amRf_none, amClr_int, amClr_ref, amClr_null, amClr_long, amClr_ra, amClr_rf, amFit_int, amFit_oref, amFit_aref, amFit_onull, amFit_anull, amOptSome, amOptNone, List.cons_append, List.nil_append, true_and, and_true, true_implies, not_true_eq_false, not_false_eq_true, false_implies, and_self, Nat.add_zero, Nat.zero_add, ne_eq, Prod.mk.injEq, amC01_0, amC01_1, amC01_nb, amNb0, amNb1, amTcpI_d, Nat.reduceLeDiff, Nat.reduceAdd, Nat.reduceSub, Nat.reduceEqDiff, Nat.le_refl, amN0le, hR.s, hR.r, amLeI, amLtI, amEqI, amLe0, amGt0, amEq0, amNotPosI, amGe0, amVI, amCl_nI, amAdd, amSub, amMul, hru, hsp]
    have := loop (s - 1) 0 (by omega)
    rw [Nat.pow_zero, Nat.mul_one] at this
    exact this
  · have fin : ∀ v, v = lastsN S.span S.rule s → F 23 [.ref 124, .int (nI s), .int (nI v), .int (nI 1)] [] h 0 0 := by
      intro v e
      subst e
      have r2' : (S.rule = 2) = False := eq_false r2
      by_cases q : s ≤ 1
      · have q' : (s ≤ 1) = True := eq_true q
        refine goX6_lasts hF 30 ?_
        simp (disch := omega) only [wX6_lasts_0, uX6_lasts_0, wX6_lasts_1, wX6_lasts_4, wX6_lasts_5, wX6_lasts_6, wX6_lasts_7, wX6_lasts_8, wX6_lasts_11, wX6_lasts_12, wX6_lasts_13, wX6_lasts_14, wX6_lasts_17, wX6_lasts_18, wX6_lasts_19, wX6_lasts_20, wX6_lasts_21, wX6_lasts_22, wX6_lasts_23, uX6_lasts_23, wX6_lasts_24, wX6_lasts_25, wX6_lasts_28, wX6_lasts_29, wX6_lasts_32, wX6_lasts_33, wX6_lasts_34, wX6_lasts_35, wX6_lasts_38, wX6_lasts_39, wX6_lasts_40, wX6_lasts_41, wX6_lasts_42, wX6_lasts_45, wX6_lasts_48, wX6_lasts_49, amSI_1, amSI_2, amSI_3, amSI_s, amU_at, amIsR_ref, amIsR_null, amIsR_rf, amRf_some, amRf_none, amClr_int, amClr_ref, amClr_null, amClr_long, amClr_ra, amClr_rf, amFit_int, amFit_oref, amFit_aref, amFit_onull, amFit_anull, amOptSome, amOptNone, List.cons_append, List.nil_append, true_and, and_true, true_implies, not_true_eq_false, not_false_eq_true, false_implies, and_self, Nat.add_zero, Nat.zero_add, ne_eq, Prod.mk.injEq, amC01_0, amC01_1, amC01_nb, amNb0, amNb1, amTcpI_d, Nat.reduceLeDiff, Nat.reduceAdd, Nat.reduceSub, Nat.reduceEqDiff, Nat.le_refl, amN0le, hR.s, hR.r, amLeI, amLtI, amEqI, amLe0, amGt0, amEq0, amNotPosI, amGe0, amVI, amCl_nI, amAdd, amSub, amMul, q']
        exact amRet.of (by decide) (by decide) hK
      · have q' : (s ≤ 1) = False := eq_false q
        refine goX6_lasts hF 30 ?_
        simp (disch := omega) only [wX6_lasts_0, uX6_lasts_0, wX6_lasts_1, wX6_lasts_4, wX6_lasts_5, wX6_lasts_6, wX6_lasts_7, wX6_lasts_8, wX6_lasts_11, wX6_lasts_12, wX6_lasts_13, wX6_lasts_14, wX6_lasts_17, wX6_lasts_18, wX6_lasts_19, wX6_lasts_20, wX6_lasts_21, wX6_lasts_22, wX6_lasts_23, uX6_lasts_23, wX6_lasts_24, wX6_lasts_25, wX6_lasts_28, wX6_lasts_29, wX6_lasts_32, wX6_lasts_33, wX6_lasts_34, wX6_lasts_35, wX6_lasts_38, wX6_lasts_39, wX6_lasts_40, wX6_lasts_41, wX6_lasts_42, wX6_lasts_45, wX6_lasts_48, wX6_lasts_49, amSI_1, amSI_2, amSI_3, amSI_s, amU_at, amIsR_ref, amIsR_null, amIsR_rf, amRf_some, amRf_none, amClr_int, amClr_ref, amClr_null, amClr_long, amClr_ra, amClr_rf, amFit_int, amFit_oref, amFit_aref, amFit_onull, amFit_anull, amOptSome, amOptNone, List.cons_append, List.nil_append, true_and, and_true, true_implies, not_true_eq_false, not_false_eq_true, false_implies, and_self, Nat.add_zero, Nat.zero_add, ne_eq, Prod.mk.injEq, amC01_0, amC01_1, amC01_nb, amNb0, amNb1, amTcpI_d, Nat.reduceLeDiff, Nat.reduceAdd, Nat.reduceSub, Nat.reduceEqDiff, Nat.le_refl, amN0le, hR.s, hR.r, amLeI, amLtI, amEqI, amLe0, amGt0, amEq0, amNotPosI, amGe0, amVI, amCl_nI, amAdd, amSub, amMul, q', hru, r2']
        exact amRet.of (by decide) (by decide) hK
    by_cases r1 : S.rule = 1
    · rw [r1] at hru
      have := fin (S.span * s) (by simp [lastsN, r1, Nat.mul_comm])
      refine goX6_lasts hF 30 ?_
      simp (disch := omega) only [wX6_lasts_0, uX6_lasts_0, wX6_lasts_1, wX6_lasts_4, wX6_lasts_5, wX6_lasts_6, wX6_lasts_7, wX6_lasts_8, wX6_lasts_11, wX6_lasts_12, wX6_lasts_13, wX6_lasts_14, wX6_lasts_17, wX6_lasts_18, wX6_lasts_19, wX6_lasts_20, wX6_lasts_21, wX6_lasts_22, wX6_lasts_23, uX6_lasts_23, wX6_lasts_24, wX6_lasts_25, wX6_lasts_28, wX6_lasts_29, wX6_lasts_32, wX6_lasts_33, wX6_lasts_34, wX6_lasts_35, wX6_lasts_38, wX6_lasts_39, wX6_lasts_40, wX6_lasts_41, wX6_lasts_42, wX6_lasts_45, wX6_lasts_48, wX6_lasts_49, amSI_1, amSI_2, amSI_3, amSI_s, amU_at, amIsR_ref, amIsR_null, amIsR_rf, amRf_some, amRf_none, amClr_int, amClr_ref, amClr_null, amClr_long, amClr_ra, amClr_rf, amFit_int, amFit_oref, amFit_aref, amFit_onull, amFit_anull, amOptSome, amOptNone, List.cons_append, List.nil_append, true_and, and_true, true_implies, not_true_eq_false, not_false_eq_true, false_implies, and_self, Nat.add_zero, Nat.zero_add, ne_eq, Prod.mk.injEq, amC01_0, amC01_1, amC01_nb, amNb0, amNb1, amTcpI_d, Nat.reduceLeDiff, Nat.reduceAdd, Nat.reduceSub, Nat.reduceEqDiff, Nat.le_refl, amN0le, hR.s, hR.r, amLeI, amLtI, amEqI, amLe0, amGt0, amEq0, amNotPosI, amGe0, amVI, amCl_nI, amAdd, amSub, amMul, hru, hsp]
      exact this
    · have r1' : (S.rule = 1) = False := eq_false r1
      have := fin S.span (by simp [lastsN, show S.rule = 0 by omega])
      refine goX6_lasts hF 30 ?_
      simp (disch := omega) only [wX6_lasts_0, uX6_lasts_0, wX6_lasts_1, wX6_lasts_4, wX6_lasts_5, wX6_lasts_6, wX6_lasts_7, wX6_lasts_8, wX6_lasts_11, wX6_lasts_12, wX6_lasts_13, wX6_lasts_14, wX6_lasts_17, wX6_lasts_18, wX6_lasts_19, wX6_lasts_20, wX6_lasts_21, wX6_lasts_22, wX6_lasts_23, uX6_lasts_23, wX6_lasts_24, wX6_lasts_25, wX6_lasts_28, wX6_lasts_29, wX6_lasts_32, wX6_lasts_33, wX6_lasts_34, wX6_lasts_35, wX6_lasts_38, wX6_lasts_39, wX6_lasts_40, wX6_lasts_41, wX6_lasts_42, wX6_lasts_45, wX6_lasts_48, wX6_lasts_49, amSI_1, amSI_2, amSI_3, amSI_s, amU_at, amIsR_ref, amIsR_null, amIsR_rf, amRf_some, amRf_none, amClr_int, amClr_ref, amClr_null, amClr_long, amClr_ra, amClr_rf, amFit_int, amFit_oref, amFit_aref, amFit_onull, amFit_anull, amOptSome, amOptNone, List.cons_append, List.nil_append, true_and, and_true, true_implies, not_true_eq_false, not_false_eq_true, false_implies, and_self, Nat.add_zero, Nat.zero_add, ne_eq, Prod.mk.injEq, amC01_0, amC01_1, amC01_nb, amNb0, amNb1, amTcpI_d, Nat.reduceLeDiff, Nat.reduceAdd, Nat.reduceSub, Nat.reduceEqDiff, Nat.le_refl, amN0le, hR.s, hR.r, amLeI, amLtI, amEqI, amLe0, amGt0, amEq0, amNotPosI, amGe0, amVI, amCl_nI, amAdd, amSub, amMul, hru, hsp, r1']
      exact this
theorem tX6_lasts_d {a : Nat} {m0 : Int32} {h : amH} {K : Option Value → amH → Prop} : tX6_lasts [.ref a, .int m0] h K = ∃ (S : HS) (s : Nat), a = (124 : Nat) ∧ mdAt h ∧ RwIs h.2.1 125 0 S ∧ hsB S ∧ m0 = nI s ∧ 1 ≤ s ∧ s ≤ 9 ∧ K (some (.int (nI (lastsN S.span S.rule s)))) h := rfl
def tX6_wordsAt : amT := fun as h K => match as with
  | [.ref a, .int p0] => ∃ (S : HS) (p k : Nat), a = (124 : Nat) ∧ mdAt h ∧ RwIs h.2.1 125 0 S ∧ p0 = nI p ∧ p < 7 ∧ h.2.1 134 p = nI k ∧ k < S.ord.length ∧ K (some (.int (nI (S.sets.getD k 0)))) h
  | _ => False
/-! ReadingStagesModel.wordsAt(I)I -/
def kX6_wordsAt : Nat → Bool := fun pc => false
def rX6_wordsAt : List (Nat × amS) := [(1, 1, 0, 0, amTget 6 0), (7, 1, 0, 0, amTget 6 12)]
def eX6_wordsAt (ret : Option Value → amH → Nat → Nat → Prop) (F : amX) : Nat → amX := amWp cX6_wordsAt kX6_wordsAt (amLk rX6_wordsAt) (some .int) 0 0 ret F
def sX6_wordsAt (ret : Option Value → amH → Nat → Nat → Prop) (F : amX) : Nat → amX := amWs cX6_wordsAt kX6_wordsAt (amLk rX6_wordsAt) (some .int) 0 0 ret F
theorem wX6_wordsAt_0 {ret F n h} {v0 v1 st} : eX6_wordsAt ret F (n + 1) 0 [v0, v1] (st) h 0 0 = (amIsR v0 ∧ eX6_wordsAt ret F n 1 [v0, v1] (v0 :: st) h 0 0) := (amWp_dec rfl dX6_wordsAt_0 rfl).trans rfl
theorem uX6_wordsAt_0 {ret F n h} {v0 v1 st} : sX6_wordsAt ret F n 0 [v0, v1] (st) h 0 0 = (amIsR v0 ∧ eX6_wordsAt ret F n 1 [v0, v1] (v0 :: st) h 0 0) := (amWs_dec dX6_wordsAt_0 rfl).trans rfl
theorem wX6_wordsAt_1 {ret F n h} {v0 v1 a} : eX6_wordsAt ret F (n + 1) 1 [v0, v1] (.ref a :: []) h 0 0 = (h.1 a = (0, 6) ∧ eX6_wordsAt ret F n 4 [v0, v1] (va_rf (h.2.2.2.1 a 0) :: []) h 0 0) := (amWp_dec rfl dX6_wordsAt_1 rfl).trans (amS4 (Nat.le_of_ble_eq_true rfl) (Nat.le_of_ble_eq_true rfl) (Nat.le_of_ble_eq_true rfl) (Nat.le_of_ble_eq_true rfl))
theorem wX6_wordsAt_4 {ret F n h} {v0 v1 st} : eX6_wordsAt ret F (n + 1) 4 [v0, v1] (st) h 0 0 = (eX6_wordsAt ret F n 6 [v0, v1] (.int (nI 13) :: st) h 0 0) := (amWp_dec rfl dX6_wordsAt_4 rfl).trans rfl
theorem wX6_wordsAt_6 {ret F n h} {v0 v1 st} : eX6_wordsAt ret F (n + 1) 6 [v0, v1] (st) h 0 0 = (amIsR v0 ∧ eX6_wordsAt ret F n 7 [v0, v1] (v0 :: st) h 0 0) := (amWp_dec rfl dX6_wordsAt_6 rfl).trans rfl
theorem wX6_wordsAt_7 {ret F n h} {v0 v1 r0 r1 a} : eX6_wordsAt ret F (n + 1) 7 [v0, v1] (.ref a :: r0 :: r1 :: []) h 0 0 = (h.1 a = (0, 6) ∧ eX6_wordsAt ret F n 10 [v0, v1] (va_rf (h.2.2.2.1 a 12) :: r0 :: r1 :: []) h 0 0) := (amWp_dec rfl dX6_wordsAt_7 rfl).trans (amS4 (Nat.le_of_ble_eq_true rfl) (Nat.le_of_ble_eq_true rfl) (Nat.le_of_ble_eq_true rfl) (Nat.le_of_ble_eq_true rfl))
theorem wX6_wordsAt_10 {ret F n h} {v0 st x} : eX6_wordsAt ret F (n + 1) 10 [v0, .int x] (st) h 0 0 = (eX6_wordsAt ret F n 11 [v0, .int x] (.int x :: st) h 0 0) := (amWp_dec rfl dX6_wordsAt_10 rfl).trans rfl
theorem wX6_wordsAt_11 {ret F n h} {v0 v1 st x a} : eX6_wordsAt ret F (n + 1) 11 [v0, v1] (.int x :: .ref a :: st) h 0 0 = ((h.1 a).1 = 1 ∧ vp_in x (h.1 a).2 ∧ eX6_wordsAt ret F n 12 [v0, v1] (.int (h.2.1 a x.toNatClampNeg) :: st) h 0 0) := (amWp_dec rfl dX6_wordsAt_11 rfl).trans rfl
theorem wX6_wordsAt_12 {ret F n h} {v0 v1 st y x} : eX6_wordsAt ret F (n + 1) 12 [v0, v1] (.int y :: .int x :: st) h 0 0 = (eX6_wordsAt ret F n 13 [v0, v1] (.int (x + y) :: st) h 0 0) := (amWp_dec rfl dX6_wordsAt_12 rfl).trans rfl
theorem wX6_wordsAt_13 {ret F n h} {v0 v1 st x a} : eX6_wordsAt ret F (n + 1) 13 [v0, v1] (.int x :: .ref a :: st) h 0 0 = ((h.1 a).1 = 1 ∧ vp_in x (h.1 a).2 ∧ eX6_wordsAt ret F n 14 [v0, v1] (.int (h.2.1 a x.toNatClampNeg) :: st) h 0 0) := (amWp_dec rfl dX6_wordsAt_13 rfl).trans rfl
theorem wX6_wordsAt_14 {ret F n h} {v0 v1 x} : eX6_wordsAt ret F (n + 1) 14 [v0, v1] ([.int x]) h 0 0 = (ret (some (.int x)) h 0 0) := (amWp_dec rfl dX6_wordsAt_14 rfl).trans (amTrue ⟨_, rfl, rfl⟩)
theorem evX6_wordsAt (l : Launch) (G : amG) : ∀ pc S i sz, amLk rX6_wordsAt pc = some S → decode cX6_wordsAt pc = .ok (i, sz) → amSiteP pc G l yX6_wordsAt.cls yX6_wordsAt.name yX6_wordsAt.desc (amRm 1 0 0) i sz S.1 S.2.1 S.2.2.1 S.2.2.2 := amLk_ok (by
  refine List.forall_mem_cons.mpr ⟨⟨_, _, dX6_wordsAt_1, amSite.P (amSiteGet ⟨_, rfl, by decide, Or.inl q1295⟩)⟩, ?_⟩
  refine List.forall_mem_cons.mpr ⟨⟨_, _, dX6_wordsAt_7, amSite.P (amSiteGet ⟨_, rfl, by decide, Or.inl q1307⟩)⟩, ?_⟩
  exact fun _ h => absurd h List.not_mem_nil)
theorem goX6_wordsAt {ret F} (hF : amCld cX6_wordsAt kX6_wordsAt (amLk rX6_wordsAt) (some .int) 0 0 ret F) (n : Nat) {pc ls st h k z} (q : sX6_wordsAt ret F n pc ls st h k z) : F pc ls st h k z := hF.1 n pc ls st h k z q
theorem metX6_wordsAt (l : Launch) (G : amG) : amMet l G yX6_wordsAt (ws_ yX6_wordsAt cX6_wordsAt 2 (some .int)) 1 0 0 tX6_wordsAt := by
  refine amMet_of (cut := kX6_wordsAt) (by decide +kernel) (evX6_wordsAt l G) ?_
  intro as h K hT
  match as, hT with
  | [.ref a, .int p0], ⟨S, p, k, e, hR, hS, e1, p7, hp, hk, hK⟩ =>
  refine ⟨Nat.le_of_ble_eq_true rfl, fun F hF => ?_⟩
  show F 0 [.ref a, .int p0] [] h 0 0
  obtain ⟨a, rfl⟩ : ∃ i : Nat, i = a := ⟨_, rfl⟩
  subst e; subst e1
  have n7 := hS.n7
  have hs := hS.s0 k hk
  refine goX6_wordsAt hF 30 ?_
  simp (disch := omega) only [wX6_wordsAt_0, uX6_wordsAt_0, wX6_wordsAt_1, wX6_wordsAt_4, wX6_wordsAt_6, wX6_wordsAt_7, wX6_wordsAt_10, wX6_wordsAt_11, wX6_wordsAt_12, wX6_wordsAt_13, wX6_wordsAt_14, amSI_1, amSI_2, amSI_3, amSI_s, amU_at, amIsR_ref, amIsR_null, amIsR_rf, amRf_some, amRf_none, amClr_int, amClr_ref, amClr_null, amClr_long, amClr_ra, amClr_rf, amFit_int, amFit_oref, amFit_aref, amFit_onull, amFit_anull, amOptSome, amOptNone, List.cons_append, List.nil_append, true_and, and_true, true_implies, not_true_eq_false, not_false_eq_true, false_implies, and_self, Nat.add_zero, Nat.zero_add, ne_eq, Prod.mk.injEq, amC01_0, amC01_1, amC01_nb, amNb0, amNb1, amTcpI_d, Nat.reduceLeDiff, Nat.reduceAdd, Nat.reduceSub, Nat.reduceEqDiff, Nat.le_refl, amN0le, hR.s, hR.r, amLeI, amLtI, amEqI, amLe0, amGt0, amEq0, amNotPosI, amGe0, amVI, amCl_nI, amAdd, amSub, amMul, hp, hs]
  exact amRet.of (by decide) (by decide) hK
theorem tX6_wordsAt_d {a : Nat} {p0 : Int32} {h : amH} {K : Option Value → amH → Prop} : tX6_wordsAt [.ref a, .int p0] h K = ∃ (S : HS) (p k : Nat), a = (124 : Nat) ∧ mdAt h ∧ RwIs h.2.1 125 0 S ∧ p0 = nI p ∧ p < 7 ∧ h.2.1 134 p = nI k ∧ k < S.ord.length ∧ K (some (.int (nI (S.sets.getD k 0)))) h := rfl
