/-! lists of small numbers -/
set_option maxRecDepth 100000
theorem ins_getD {l : List Nat} {p x : Nat} (hp : p ≤ l.length) (i : Nat) : (l.insertIdx p x).getD i 0 = if i < p then l.getD i 0 else if i = p then x else l.getD (i - 1) 0 := by
  rw [List.getD_eq_getElem?_getD, List.getElem?_insertIdx]
  by_cases h1 : i < p
  · rw [if_pos h1, if_pos h1, List.getD_eq_getElem?_getD]
  · rw [if_neg h1, if_neg h1]
    by_cases h2 : i = p
    · rw [if_pos h2, if_pos h2, if_pos (by omega)]; rfl
    · rw [if_neg h2, if_neg h2, List.getD_eq_getElem?_getD]
theorem era_getD {l : List Nat} {p : Nat} (i : Nat) : (l.eraseIdx p).getD i 0 = if i < p then l.getD i 0 else l.getD (i + 1) 0 := by
  rw [List.getD_eq_getElem?_getD, List.getElem?_eraseIdx]
  by_cases h1 : i < p
  · rw [if_pos h1, if_pos h1, List.getD_eq_getElem?_getD]
  · rw [if_neg h1, if_neg h1, List.getD_eq_getElem?_getD]
theorem fold_take {β : Type} {f : β → Nat → β} {s : β} {l : List Nat} {p : Nat} (h : p < l.length) : (l.take (p + 1)).foldl f s = f ((l.take p).foldl f s) (l.getD p 0) := by
  rw [List.take_succ_eq_append_getElem h, List.foldl_append]
  simp [List.getD_eq_getElem?_getD, h]
theorem getD_mem {l : List Nat} {p : Nat} (h : p < l.length) : l.getD p 0 ∈ l := by
  rw [List.getD_eq_getElem?_getD, List.getElem?_eq_getElem h]
  exact List.getElem_mem h
/-- by its figures -/
def numL (l : List Nat) : Nat := l.foldl (fun v x => 10 * v + x) 0
theorem numL_take {l : List Nat} {p : Nat} (h : p < l.length) : numL (l.take (p + 1)) = 10 * numL (l.take p) + l.getD p 0 := fold_take h
/-- each ahead of what it is ahead of -/
def hdStep (a : Nat → Nat) (s : Nat × Bool) (x : Nat) : Nat × Bool := (s.1 ||| 2 ^ x, s.2 && (a x &&& s.1 == 0))
def hdF (a : Nat → Nat) (l : List Nat) : Nat × Bool := l.foldl (hdStep a) (0, true)
def hdL (a : Nat → Nat) (l : List Nat) : Bool := (hdF a l).2
theorem hdF_take {a : Nat → Nat} {l : List Nat} {p : Nat} (h : p < l.length) : hdF a (l.take (p + 1)) = hdStep a (hdF a (l.take p)) (l.getD p 0) := fold_take h
theorem or_lt {a b n : Nat} (ha : a < 2 ^ n) (hb : b < 2 ^ n) : a ||| b < 2 ^ n := Nat.or_lt_two_pow ha hb
theorem p2_lt {x n : Nat} (h : x < n) : 2 ^ x < 2 ^ n := Nat.pow_lt_pow_right (by decide) h
theorem hdF_lt {a : Nat → Nat} {n : Nat} : ∀ (l : List Nat) (s : Nat × Bool), s.1 < 2 ^ n → (∀ x ∈ l, x < n) → (l.foldl (hdStep a) s).1 < 2 ^ n
  | [], s, hs, _ => hs
  | x :: t, s, hs, h => hdF_lt t (hdStep a s x) (or_lt hs (p2_lt (h x List.mem_cons_self))) (fun y hy => h y (List.mem_cons_of_mem _ hy))
theorem idx_at {l : List Nat} (hn : l.Nodup) {p : Nat} (h : p < l.length) : l.idxOf (l.getD p 0) = p := by
  have h1 : l.getD p 0 = l[p] := by rw [List.getD_eq_getElem?_getD, List.getElem?_eq_getElem h]; rfl
  rw [h1]
  exact hn.idxOf_getElem p h
/-! reading through writes -/
theorem up_ne {m : Nat → Nat → Int32} {b : Nat} {f : Nat → Int32} {i : Nat} (h : i ≠ b) : va_up m b f i = m i := if_neg h
theorem up_at {m : Nat → Nat → Int32} {b : Nat} {f : Nat → Int32} : va_up m b f b = f := if_pos rfl
theorem amU_neR {m : Nat → Nat → Int32} {a j b : Nat} {x : Int32} (hb : b ≠ a) : amU m a j x b = m b := funext (fun _ => amU_ne hb)
