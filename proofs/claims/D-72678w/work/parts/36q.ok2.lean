/-! what every house keeps: a book more, a book less, an order moved (plain) -/
set_option maxRecDepth 100000
theorem hsOk.add {S : HS} (h : hsOk S) {v : Nat} (hn : S.ord.length < 7) (h0 : 0 < v) (hv : v < 1048576) : hsOk (S.add v) := by
  have eo : (S.add v).ord = S.ord ++ [S.ord.length] := rfl
  have en : (S.add v).ord.length = S.ord.length + 1 := by rw [eo]; simp
  have ea : (S.add v).ahead = S.ahead ++ [0] := rfl
  have es : (S.add v).sets = S.sets ++ [v] := rfl
  refine ⟨h.B, fun x hx => ?_, h.bd, ?_, fun x hx => ?_, by omega, ?_, ?_, fun x hx => ?_, fun x hx => ?_, h.dr, ?_, fun k hk => ?_⟩
  · rw [es] at hx
    rcases List.mem_append.mp hx with q | q
    · exact h.X x q
    · rw [List.mem_singleton.mp q]; exact hv
  · rw [eo, List.nodup_append]
    refine ⟨h.nd, by simp, fun a ha b hb => ?_⟩
    rw [List.mem_singleton.mp hb]
    have := h.lt a ha
    omega
  · rw [en]
    rw [eo] at hx
    rcases List.mem_append.mp hx with q | q
    · have := h.lt x q; omega
    · rw [List.mem_singleton.mp q]; omega
  · rw [es, en, List.length_append, h.ls]; rfl
  · rw [ea, en, List.length_append, h.la]; rfl
  · rw [en]
    rw [ea] at hx
    rcases List.mem_append.mp hx with q | q
    · exact Nat.lt_of_lt_of_le (h.al x q) (Nat.pow_le_pow_right (by decide) (by omega))
    · rw [List.mem_singleton.mp q]; exact Nat.pow_pos (by decide)
  · rw [es] at hx
    rcases List.mem_append.mp hx with q | q
    · exact h.sp x q
    · rw [List.mem_singleton.mp q]; exact h0
  · obtain ⟨r, hr⟩ := h.rk
    refine ⟨r, fun a b ha hb q => ?_⟩
    rw [en] at ha hb
    rw [ea, app_getD, h.la] at q
    by_cases ea : a < S.ord.length
    · rw [if_pos ea] at q
      by_cases eb : b < S.ord.length
      · exact hr a b ea eb q
      · have e : b = S.ord.length := by omega
        subst e
        rw [Nat.testBit_lt_two_pow (getD_lt (Nat.pow_pos (by decide)) h.al a)] at q
        cases q
    · rw [if_neg ea] at q
      split at q <;> simp at q
  · rw [en] at hk
    rw [eo]
    by_cases e : k = S.ord.length
    · subst e; simp
    · exact List.mem_append_left _ (h.mem k (by omega))
theorem shift_perm {l : List Nat} (hn : l.Nodup) {p q : Nat} (hp : p < l.length) (hq : q < l.length) : List.Perm ((l.eraseIdx p).insertIdx q (l.getD p 0)) l := by
  have hm := getD_mem hp
  have e : l.eraseIdx p = l.erase (l.getD p 0) := (List.erase_eq_eraseIdx_of_idxOf (idx_at hn hp)).symm
  refine (List.perm_insertIdx _ _ (by rw [List.length_eraseIdx_of_lt hp]; omega)).trans ?_
  rw [e]
  exact (List.perm_cons_erase hm).symm
/-- an order moved -/
def HS.shift (S : HS) (p q : Nat) : HS := S.setO ((S.ord.eraseIdx p).insertIdx q (S.ord.getD p 0))
theorem hsOk.setOp {S : HS} (h : hsOk S) {l : List Nat} (hp : List.Perm l S.ord) : hsOk (S.setO l) :=
  h.setO hp.length_eq (hp.nodup_iff.mpr h.nd) (fun x hx => h.lt x (hp.mem_iff.mp hx)) (fun k hk => hp.mem_iff.mpr (h.mem k hk))
theorem hsOk.shift {S : HS} (h : hsOk S) {p q : Nat} (hp : p < S.ord.length) (hq : q < S.ord.length) : hsOk (S.shift p q) := h.setOp (shift_perm h.nd hp hq)
/-- the number that a book had before one was lost -/
def oldN (k y : Nat) : Nat := if y < k then y else y + 1
theorem outN_tb : ∀ k, k < 7 → ∀ x, x < 128 → ∀ i, i < 7 → (outN k x).testBit i = x.testBit (oldN k i) := by decide +kernel
theorem outN_b : ∀ k, k < 7 → ∀ x, x < 128 → ∀ n, n < 8 → k < n → x < 2 ^ n → outN k x < 2 ^ (n - 1) := by decide +kernel
theorem hsOk.lose {S : HS} (h : hsOk S) {k : Nat} (hk : k < S.ord.length) : hsOk (S.lose k) := by
  have n7 := h.n7
  have hm := h.mem k hk
  have hix := List.idxOf_lt_length_of_mem hm
  have ee : S.ord.eraseIdx (S.ord.idxOf k) = S.ord.erase k := (List.erase_eq_eraseIdx_of_idxOf rfl).symm
  have eo : (S.lose k).ord = lessL k (S.ord.erase k) := by rw [← ee]; rfl
  have en : (S.lose k).ord.length = S.ord.length - 1 := by rw [eo, lessL_len, ← ee, List.length_eraseIdx_of_lt hix]
  have es : (S.lose k).sets = S.sets.eraseIdx k := rfl
  have ea : (S.lose k).ahead = (S.ahead.eraseIdx k).map (outN k) := rfl
  have la : k < S.ahead.length := by rw [h.la]; exact hk
  have ls : k < S.sets.length := by rw [h.ls]; exact hk
  have lA : (S.ahead.eraseIdx k).length = S.ord.length - 1 := by rw [List.length_eraseIdx_of_lt la, h.la]
  have mo : ∀ y, y ∈ S.ord.erase k ↔ y ≠ k ∧ y ∈ S.ord := fun y => h.nd.mem_erase_iff
  refine ⟨h.B, fun x hx => ?_, h.bd, ?_, fun x hx => ?_, by omega, ?_, ?_, fun x hx => ?_, fun x hx => ?_, h.dr, ?_, fun y hy => ?_⟩
  · exact h.X x (List.mem_of_mem_eraseIdx hx)
  · rw [eo]
    unfold lessL
    show List.Pairwise _ _
    rw [List.pairwise_map]
    refine List.Pairwise.imp_of_mem (fun {a b} ha hb hne => ?_) (h.nd.erase k)
    have h1 := ((mo a).mp ha).1
    have h2 := ((mo b).mp hb).1
    show (if k < a then a - 1 else a) ≠ (if k < b then b - 1 else b)
    have hne : a ≠ b := hne
    split <;> split <;> omega
  · rw [en]
    rw [eo] at hx
    unfold lessL at hx
    obtain ⟨y, hy, rfl⟩ := List.mem_map.mp hx
    have h1 := ((mo y).mp hy).1
    have h2 := h.lt y ((mo y).mp hy).2
    split <;> omega
  · rw [es, en, List.length_eraseIdx_of_lt ls, h.ls]
  · rw [ea, en, List.length_map, lA]
  · rw [en]
    rw [ea] at hx
    obtain ⟨y, hy, rfl⟩ := List.mem_map.mp hx
    have h1 := List.mem_of_mem_eraseIdx hy
    exact outN_b k (by omega) y (h.a128 y h1) S.ord.length (by omega) hk (h.al y h1)
  · exact h.sp x (List.mem_of_mem_eraseIdx hx)
  · obtain ⟨r, hr⟩ := h.rk
    refine ⟨fun y => r (oldN k y), fun a b ha hb q => ?_⟩
    rw [en] at ha hb
    rw [ea, map_getD (by omega), era_getD] at q
    have e1 : (if a < k then S.ahead.getD a 0 else S.ahead.getD (a + 1) 0) = S.ahead.getD (oldN k a) 0 := by
      unfold oldN
      split <;> rfl
    rw [e1] at q
    rw [outN_tb k (by omega) _ (getD_lt (by decide) h.a128 _) b (by omega)] at q
    refine hr _ _ ?_ ?_ q
    · unfold oldN; split <;> omega
    · unfold oldN; split <;> omega
  · rw [en] at hy
    rw [eo]
    unfold lessL
    refine List.mem_map.mpr ⟨oldN k y, (mo _).mpr ⟨?_, h.mem _ ?_⟩, ?_⟩
    · unfold oldN; split <;> omega
    · unfold oldN; split <;> omega
    · unfold oldN
      by_cases e : y < k
      · rw [if_pos e, if_neg (by omega)]
      · rw [if_neg e, if_pos (by omega)]; rfl
