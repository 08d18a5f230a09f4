/-! AM: an abstract machine over numbered cells (ids). A heap is: the shape of each cell (kind, class or length), its ints, its longs, its references (as ids), how many ids there are. The cell i lies at the address amAd G i. -/
set_option maxRecDepth 100000
abbrev amH : Type := (Nat → Nat × Nat) × (Nat → Nat → Int32) × (Nat → Nat → Int64) × (Nat → Nat → Option Nat) × Nat
/-- classes and their slots; the array classes (and those of lambdas) by kind; where the made cells begin; where the constants lie -/
abbrev amG : Type := va_G × (Nat → ClassId) × Nat × (Nat → Nat)
/-- so many constants -/
def amN0 : Nat := 24
def amAd (G : amG) (i : Nat) : Nat := if i < amN0 then G.2.2.2 i else G.2.2.1 + (i - amN0)
def amV (G : amG) (v : Value) : Value := match v with
  | .ref i => .ref (amAd G i)
  | v => v
theorem amV_int (G : amG) (x : Int32) : amV G (.int x) = .int x := rfl
theorem amV_long (G : amG) (x : Int64) : amV G (.long x) = .long x := rfl
theorem amV_null (G : amG) : amV G .null = .null := rfl
theorem amV_ref (G : amG) (i : Nat) : amV G (.ref i) = .ref (amAd G i) := rfl
theorem amV_rf (G : amG) (r : Option Nat) : amV G (va_rf r) = va_rf (r.map (amAd G)) := by cases r <;> rfl
theorem amV_cat (G : amG) (v : Value) : (amV G v).category = v.category := by cases v <;> rfl
def amMk (ty : FieldType) : Nat := match ty with
  | .long => 1
  | .object _ => 2
  | .array _ => 2
  | _ => 0
def amRd (ty : FieldType) (h : amH) (i j : Nat) : Value := match amMk ty with
  | 1 => .long (h.2.2.1 i j)
  | 2 => va_rf (h.2.2.2.1 i j)
  | _ => .int (h.2.1 i j)
def amCl : List vw_C := [(RX0, TX0, 25), (RX1, TX1, 8), (RX2, TX2, 2), (RX3, TX3, 7), (RX4, TX4, 2), (RX5, TX5, 1), (RX6, TX6, 27), (RJ6, TJ6, 4), (RJ5, TJ5, 4)]
def amTy (c : Nat) : Nat → FieldType := match c with
  | 0 => tyX0 | 1 => tyX1 | 2 => tyX2 | 3 => tyX3 | 4 => tyX4 | 5 => tyX5 | 6 => tyX6 | 7 => tyJ6 | _ => tyJ5
theorem amCl_cases {P : Nat → vw_C → Prop} (h0 : P 0 (RX0, TX0, 25)) (h1 : P 1 (RX1, TX1, 8)) (h2 : P 2 (RX2, TX2, 2)) (h3 : P 3 (RX3, TX3, 7)) (h4 : P 4 (RX4, TX4, 2)) (h5 : P 5 (RX5, TX5, 1)) (h6 : P 6 (RX6, TX6, 27)) (h7 : P 7 (RJ6, TJ6, 4)) (h8 : P 8 (RJ5, TJ5, 4)) {ci : Nat} {q : vw_C} (h : amCl[ci]? = some q) : P ci q := by
  match ci, h with
  | 0, h => cases h; exact h0
  | 1, h => cases h; exact h1
  | 2, h => cases h; exact h2
  | 3, h => cases h; exact h3
  | 4, h => cases h; exact h4
  | 5, h => cases h; exact h5
  | 6, h => cases h; exact h6
  | 7, h => cases h; exact h7
  | 8, h => cases h; exact h8
  | k + 9, h => simp [amCl] at h
theorem amIn {ci : Nat} {q : vw_C} (h : amCl[ci]? = some q) : ∀ w ∈ u_ws q.1 q.2.1 q.2.2, w ∈ lw_all :=
  amCl_cases (P := fun _ q => ∀ w ∈ u_ws q.1 q.2.1 q.2.2, w ∈ lw_all) in_X0 in_X1 in_X2 in_X3 in_X4 in_X5 in_X6 in_J6 in_J5 h
theorem amTyOk {ci : Nat} {q : vw_C} (h : amCl[ci]? = some q) : ∀ k, k < q.2.2 → parseFieldDescriptor (q.2.1 k).2.2.1 = some (amTy ci k) :=
  amCl_cases (P := fun ci q => ∀ k, k < q.2.2 → parseFieldDescriptor (q.2.1 k).2.2.1 = some (amTy ci k)) tyX0_ok tyX1_ok tyX2_ok tyX3_ok tyX4_ok tyX5_ok tyX6_ok tyJ6_ok tyJ5_ok h
theorem amNm {ci : Nat} {q : vw_C} (h : amCl[ci]? = some q) : ∀ a, a < q.2.2 → ∀ b, b < q.2.2 → a ≠ b → (q.2.1 a).2.1 ≠ (q.2.1 b).2.1 :=
  amCl_cases (P := fun _ q => ∀ a, a < q.2.2 → ∀ b, b < q.2.2 → a ≠ b → (q.2.1 a).2.1 ≠ (q.2.1 b).2.1) nmX0 nmX1 nmX2 nmX3 nmX4 nmX5 nmX6 nmJ6 nmJ5 h
/-- kinds of arrays: 1 int, 2 byte, 3 char, 4 short, 5 long, 6 rules, 7 houses, 8 sheets; from 20 on: the lambdas' objects; 98: any, 99: none -/
def amKt (k : Nat) : FieldType := match k with
  | 1 => .int | 2 => .byte | 3 => .char | 4 => .short | 5 => .long | 6 => .object "ReadingStages$Rule" | 7 => .object "ReadingStages$House" | 8 => .object "ReadingStages$Sheet" | _ => .int
def amLt (k j : Nat) : FieldType := match k, j with
  | 24, 1 => .int
  | 25, 1 => .int
  | 26, 2 => .int
  | _, _ => .object "java/lang/Object"
def amEt (k j : Nat) : FieldType := if k < 20 then amKt k else amLt k j
def amTys (G : amG) : List (ClassId × FieldType) := [(G.2.1 1, .int), (G.2.1 2, .byte), (G.2.1 3, .char), (G.2.1 4, .short), (G.2.1 5, .long), (G.2.1 6, .object "ReadingStages$Rule"), (G.2.1 7, .object "ReadingStages$House"), (G.2.1 8, .object "ReadingStages$Sheet")]
theorem amTys_at (G : amG) {k : Nat} (h0 : 1 ≤ k) (h : k ≤ 8) : (amTys G)[k - 1]? = some (G.2.1 k, amKt k) := by
  match k, h0, h with
  | 1, _, _ => rfl
  | 2, _, _ => rfl
  | 3, _, _ => rfl
  | 4, _, _ => rfl
  | 5, _, _ => rfl
  | 6, _, _ => rfl
  | 7, _, _ => rfl
  | 8, _, _ => rfl
  | k + 9, _, h => omega
/-- an object by its slots; of the made ones it is known besides that the machine keeps nothing in them -/
def amOB (i o : Nat) (cC : ClassId) (N : Nat) (iS : Nat → Nat) (H : Heap) (V : Nat → Value) : Prop := ∃ cell : Cell, H[o]? = some cell ∧ cell.cls = cC ∧ ((cell.vm.isStatics = false ∧ cell.vm ≠ .unknown) ∧ (amN0 ≤ i → cell.vm = .none)) ∧ ∀ k, k < N → cell.slots[iS k]? = some (V k)
theorem amOB.of {i o : Nat} {cC : ClassId} {N : Nat} {iS : Nat → Nat} {H : Heap} {V : Nat → Value} (h : t_OB o cC N iS H V) : amOB i o cC N iS H V := by
  obtain ⟨cell, q, r1, r2, r3⟩ := h
  exact ⟨cell, q, r1, ⟨⟨by rw [r2]; rfl, by rw [r2]; exact fun h => by cases h⟩, fun _ => r2⟩, r3⟩
theorem amOB.kept {i o : Nat} {cC : ClassId} {N : Nat} {iS : Nat → Nat} {H H1 : Heap} {V : Nat → Value} (h : amOB i o cC N iS H V) (h1 : H1[o]? = H[o]?) : amOB i o cC N iS H1 V := by
  obtain ⟨cell, q, r⟩ := h
  exact ⟨cell, by rw [h1]; exact q, r⟩
theorem amOB.to {i o : Nat} {cC : ClassId} {N : Nat} {iS : Nat → Nat} {H : Heap} {V V' : Nat → Value} (h : amOB i o cC N iS H V) (hv : ∀ k, k < N → V k = V' k) : amOB i o cC N iS H V' := by
  obtain ⟨cell, q, r1, r2, r3⟩ := h
  exact ⟨cell, q, r1, r2, fun k hk => by rw [← hv k hk]; exact r3 k hk⟩
/-- an object's cell -/
def amObj (G : amG) (h : amH) (i ci : Nat) (H : Heap) : Prop := ∃ r : vw_C, amCl[ci]? = some r ∧ amOB i (amAd G i) (G.1.1 ci) r.2.2 (G.1.2 ci) H (fun j => amV G (amRd (amTy ci j) h i j))
/-- an array by its items; the made ones' cells are known whole -/
def amAV (i o : Nat) (cA : ClassId) (n : Nat) (H : Heap) (f : Nat → Value) : Prop := ∃ ce : Cell, H[o]? = some ce ∧ (ce.cls = cA ∧ ce.slots = (arrV cA n f).slots ∧ ce.vm.isStatics = false ∧ ce.vm ≠ .unknown) ∧ (amN0 ≤ i → ce = arrV cA n f)
theorem amAV.of {i o : Nat} {cA : ClassId} {n : Nat} {H : Heap} {f : Nat → Value} (h : H[o]? = some (arrV cA n f)) : amAV i o cA n H f := ⟨_, h, ⟨rfl, rfl, rfl, fun h => by cases h⟩, fun _ => rfl⟩
theorem amAV.own {i o : Nat} {cA : ClassId} {n : Nat} {H : Heap} {f : Nat → Value} (h : amAV i o cA n H f) (hi : amN0 ≤ i) : H[o]? = some (arrV cA n f) := by
  obtain ⟨ce, q, -, r⟩ := h
  rw [q, r hi]
theorem amAV.isA {i o : Nat} {cA : ClassId} {n : Nat} {H : Heap} {f : Nat → Value} {s : State} {t : FieldType} (h : amAV i o cA n H f) (hA : ArrOfT s cA t) : ∃ ce : Cell, H[o]? = some ce ∧ s.isArrayOf ce t ∧ ce.vm ≠ .unknown ∧ ce.slots = (arrV cA n f).slots ∧ ce.cls = cA ∧ ce.vm.isStatics = false := by
  obtain ⟨ce, q, ⟨r1, r2, r3, r4⟩, -⟩ := h
  refine ⟨ce, q, ⟨fun k hk => (by rw [hk] at r3; cases r3), ?_⟩, r4, r2, r1, r3⟩
  rw [r1]
  exact (hA n f).2
theorem amAV.kept {i o : Nat} {cA : ClassId} {n : Nat} {H H1 : Heap} {f g : Nat → Value} (h : amAV i o cA n H f) (h1 : H1[o]? = H[o]?) (hg : arrV cA n g = arrV cA n f) : amAV i o cA n H1 g := by
  obtain ⟨ce, q, r⟩ := h
  exact ⟨ce, by rw [h1]; exact q, by rw [hg]; exact r⟩
/-- an array's cell (a lambda's object likewise) -/
def amArr (G : amG) (h : amH) (i k n : Nat) (H : Heap) : Prop := amAV i (amAd G i) (G.2.1 k) n H (fun j => amV G (amRd (amEt k j) h i j)) ∧ ∀ j, j < n → amMk (amEt k j) = 0 → fits (amEt k j) (.int (h.2.1 i j)) = true
def amCell (G : amG) (h : amH) (i : Nat) (H : Heap) : Prop := ((h.1 i).1 = 0 → amObj G h i (h.1 i).2 H) ∧ (1 ≤ (h.1 i).1 → (h.1 i).1 < 90 → amArr G h i (h.1 i).1 (h.1 i).2 H)
/-- the texts of the constant strings -/
def csTx (i : Nat) : List Nat := match i with
  | 1 => [32]
  | 2 => [43]
  | 3 => [45]
  | 4 => [110, 111, 110, 101]
  | 5 => [115, 116, 101, 97, 100, 121]
  | 6 => [103, 114, 111, 119, 105, 110, 103]
  | 7 => [100, 111, 117, 98, 108, 105, 110, 103]
  | _ => []
/-- what the constants hold: strings (their bytes in the cells 8 ..), figures' tens and ones -/
def amCst (h : amH) : Prop := (∀ i, i < 8 → h.1 i = (0, 7) ∧ h.2.2.2.1 i 0 = some (8 + i) ∧ h.2.1 i 1 = nI 0 ∧ h.1 (8 + i) = (2, (csTx i).length) ∧ ∀ j, j < (csTx i).length → h.2.1 (8 + i) j = nI ((csTx i).getD j 0)) ∧ h.1 16 = (2, 100) ∧ h.1 17 = (2, 100) ∧ ∀ j, j < 100 → h.2.1 16 j = nI (48 + j / 10) ∧ h.2.1 17 j = nI (48 + j % 10)
def amRep (G : amG) (h : amH) (H : Heap) : Prop := (∀ i, amCell G h i H) ∧ H.size = G.2.2.1 + (h.2.2.2.2 - amN0) ∧ amN0 ≤ h.2.2.2.2 ∧ (∀ i, h.2.2.2.2 ≤ i → h.1 i = (99, 0)) ∧ (∀ i, i < amN0 → G.2.2.2 i < G.2.2.1) ∧ amCst h
def amA (G : amG) : Nat → Prop := fun q => G.2.2.1 ≤ q
theorem amAd_ne {G : amG} {h : amH} {H : Heap} (hR : amRep G h H) {a i : Nat} (ha : amN0 ≤ a) (hi : i ≠ a) : amAd G i ≠ amAd G a := by
  unfold amAd
  rw [if_neg (show ¬ a < amN0 by omega)]
  split
  · next h1 => have := hR.2.2.2.2.1 i h1; omega
  · omega
theorem amAd_own {G : amG} {a : Nat} (ha : amN0 ≤ a) : amA G (amAd G a) := by
  unfold amA amAd
  rw [if_neg (show ¬ a < amN0 by omega)]
  omega
theorem amRep.obj {G : amG} {h : amH} {H : Heap} (hR : amRep G h H) {a ci : Nat} (hs : h.1 a = (0, ci)) : amObj G h a ci H := by
  have := (hR.1 a).1 (by rw [hs])
  rw [hs] at this
  exact this
theorem amRep.arr {G : amG} {h : amH} {H : Heap} (hR : amRep G h H) {a k n : Nat} (hs : h.1 a = (k, n)) (h1 : 1 ≤ k) (h2 : k < 90) : amArr G h a k n H := by
  have := (hR.1 a).2 (by rw [hs]; exact h1) (by rw [hs]; exact h2)
  rw [hs] at this
  exact this
theorem amObj.kept {G : amG} {h h' : amH} {i ci : Nat} {H H' : Heap} (hc : amObj G h i ci H) (hH : H'[amAd G i]? = H[amAd G i]?) (hv : ∀ j, amRd (amTy ci j) h' i j = amRd (amTy ci j) h i j) : amObj G h' i ci H' := by
  obtain ⟨r, h1, h2⟩ := hc
  refine ⟨r, h1, (h2.kept hH).to (fun k _ => by rw [hv])⟩
theorem amArr.kept {G : amG} {h h' : amH} {i k n : Nat} {H H' : Heap} (hc : amArr G h i k n H) (hH : H'[amAd G i]? = H[amAd G i]?) (hi : h'.2.1 i = h.2.1 i) (hl : h'.2.2.1 i = h.2.2.1 i) (hr : h'.2.2.2.1 i = h.2.2.2.1 i) : amArr G h' i k n H' := by
  obtain ⟨h1, h2⟩ := hc
  refine ⟨h1.kept hH ?_, fun j hj hm => by rw [hi]; exact h2 j hj hm⟩
  congr 1
  funext j
  unfold amRd
  rw [hi, hl, hr]
theorem amCell.kept {G : amG} {h h' : amH} {i : Nat} {H H' : Heap} (hc : amCell G h i H) (hs : h'.1 i = h.1 i) (hH : H'[amAd G i]? = H[amAd G i]?) (hi : h'.2.1 i = h.2.1 i) (hl : h'.2.2.1 i = h.2.2.1 i) (hr : h'.2.2.2.1 i = h.2.2.2.1 i) : amCell G h' i H' := by
  refine ⟨fun q => ?_, fun q1 q2 => ?_⟩
  · rw [hs] at q ⊢
    exact (hc.1 q).kept hH (fun j => by unfold amRd; rw [hi, hl, hr])
  · rw [hs] at q1 q2 ⊢
    exact (hc.2 q1 q2).kept hH hi hl hr
/-- two heaps that say the same of every slot that there is -/
def amLen (s : Nat × Nat) : Nat := if s.1 = 0 then (match amCl[s.2]? with | some q => q.2.2 | none => 0) else s.2
def amEq (h h' : amH) : Prop := h'.1 = h.1 ∧ h'.2.2.2.2 = h.2.2.2.2 ∧ ∀ i j, j < amLen (h.1 i) → h'.2.1 i j = h.2.1 i j ∧ h'.2.2.1 i j = h.2.2.1 i j ∧ h'.2.2.2.1 i j = h.2.2.2.1 i j
theorem arrV_congr {cI : ClassId} {n : Nat} {f g : Nat → Value} (h : ∀ j, j < n → f j = g j) : arrV cI n f = arrV cI n g := by
  unfold arrV
  congr 1
  apply congrArg
  funext j
  exact h j.1 j.2
theorem amCst.mv {h h' : amH} (c : amCst h) (e1 : ∀ i, i < amN0 → h'.1 i = h.1 i) (e2 : ∀ i j, i < amN0 → j < amLen (h.1 i) → h'.2.1 i j = h.2.1 i j ∧ h'.2.2.2.1 i j = h.2.2.2.1 i j) : amCst h' := by
  obtain ⟨c1, c2, c3, c4⟩ := c
  have l16 : amLen (h.1 16) = 100 := by rw [c2]; rfl
  have l17 : amLen (h.1 17) = 100 := by rw [c3]; rfl
  refine ⟨fun i hi => ?_, by rw [e1 16 (by decide)]; exact c2, by rw [e1 17 (by decide)]; exact c3, fun j hj => ⟨by rw [(e2 16 j (by decide) (by rw [l16]; exact hj)).1]; exact (c4 j hj).1, by rw [(e2 17 j (by decide) (by rw [l17]; exact hj)).1]; exact (c4 j hj).2⟩⟩
  obtain ⟨a1, a2, a3, a4, a5⟩ := c1 i hi
  have li : amLen (h.1 i) = 4 := by rw [a1]; rfl
  have lv : amLen (h.1 (8 + i)) = (csTx i).length := by rw [a4]; rfl
  have i24 : i < amN0 := by show i < 24; omega
  have j24 : 8 + i < amN0 := by show 8 + i < 24; omega
  refine ⟨by rw [e1 i i24]; exact a1, by rw [(e2 i 0 i24 (by rw [li]; decide)).2]; exact a2, by rw [(e2 i 1 i24 (by rw [li]; decide)).1]; exact a3, by rw [e1 _ j24]; exact a4, fun j hj => ?_⟩
  rw [(e2 (8 + i) j j24 (by rw [lv]; exact hj)).1]
  exact a5 j hj
theorem amCst.mv2 {h h' : amH} (c : amCst h) (e1 : ∀ i, i < amN0 → h'.1 i = h.1 i) (e2 : ∀ i, i < amN0 → h'.2.1 i = h.2.1 i ∧ h'.2.2.2.1 i = h.2.2.2.1 i) : amCst h' := c.mv e1 (fun i j hi _ => ⟨by rw [(e2 i hi).1], by rw [(e2 i hi).2]⟩)
theorem amRep.eq {G : amG} {h h' : amH} {H : Heap} (hR : amRep G h H) (he : amEq h h') : amRep G h' H := by
  obtain ⟨e1, e2, e3⟩ := he
  refine ⟨fun i => ⟨fun q => ?_, fun q1 q2 => ?_⟩, by rw [e2]; exact hR.2.1, by rw [e2]; exact hR.2.2.1, fun i hi => by rw [e1]; exact hR.2.2.2.1 i (by rw [← e2]; exact hi), hR.2.2.2.2.1, hR.2.2.2.2.2.mv (fun i _ => by rw [e1]) (fun i j _ hj => ⟨(e3 i j hj).1, (e3 i j hj).2.2⟩)⟩
  · rw [e1] at q ⊢
    obtain ⟨r, h1, h2⟩ := (hR.1 i).1 q
    refine ⟨r, h1, h2.to (fun k hk => ?_)⟩
    have hl : k < amLen (h.1 i) := by unfold amLen; rw [if_pos q, h1]; exact hk
    obtain ⟨a1, a2, a3⟩ := e3 i k hl
    unfold amRd
    rw [a1, a2, a3]
  · rw [e1] at q1 q2 ⊢
    obtain ⟨h1, h2⟩ := (hR.1 i).2 q1 q2
    have hl : amLen (h.1 i) = (h.1 i).2 := by unfold amLen; rw [if_neg (by omega)]
    refine ⟨?_, fun j hj hm => by rw [(e3 i j (by rw [hl]; exact hj)).1]; exact h2 j hj hm⟩
    refine h1.kept rfl (arrV_congr (fun j hj => ?_))
    obtain ⟨a1, a2, a3⟩ := e3 i j (by rw [hl]; exact hj)
    unfold amRd
    rw [a1, a2, a3]
/-! what is known of the tables, all through -/
def amNF : List (String × Nat × String × String × String × String) := [("ReadingStages$House", 52, "ReadingStages$Board", "many", "I", "ReadingStages"), ("ReadingStages", 153, "ReadingStages$Board", "many", "I", "ReadingStages"), ("ReadingStages", 129, "ReadingStages$House", "sets", "[I", "ReadingStages"), ("ReadingStages", 172, "ReadingStages$House", "ahead", "[B", "ReadingStages"), ("ReadingStages", 234, "ReadingStages$House", "order", "LReadingStages$Board;", "ReadingStages"), ("ReadingStages", 101, "ReadingStages$House", "prior", "I", "ReadingStages"), ("ReadingStages", 251, "ReadingStages$House", "span", "I", "ReadingStages"), ("ReadingStages", 186, "ReadingStages$House", "bound", "I", "ReadingStages"), ("ReadingStages", 112, "ReadingStages$House", "rule", "I", "ReadingStages"), ("ReadingStages", 346, "ReadingStages$House", "draw", "I", "ReadingStages"), ("ReadingStages", 382, "ReadingStages$Fault", "place", "I", "ReadingStages"), ("ReadingStages", 370, "ReadingStages$Letters", "letters", "[C", "ReadingStages"), ("ReadingStages", 369, "ReadingStages$Letters", "many", "I", "ReadingStages"), ("ReadingStages", 441, "ReadingStages$Sheet", "row", "Ljava/lang/Object;", "ReadingStages")]
def amNM : List (String × Nat × MethodName × String) := [("ReadingStages$House", 21, ⟨"ReadingStages$Board", "<init>", "()V"⟩, "ReadingStages"), ("ReadingStages$House", 66, ⟨"ReadingStages", "has", "(II)Z"⟩, "ReadingStages"), ("ReadingStages", 17, ⟨"ReadingStages$House", "<init>", "()V"⟩, "ReadingStages"), ("ReadingStages", 50, ⟨"ReadingStages$Board", "<init>", "()V"⟩, "ReadingStages"), ("ReadingStages", 71, ⟨"ReadingStages$Letters", "<init>", "()V"⟩, "ReadingStages"), ("ReadingStages", 91, ⟨"ReadingStages$Sheet", "<init>", "()V"⟩, "ReadingStages")]
def amFW : List (String × MethodName × MethodName) := [("ReadingStages$Board", ⟨"ReadingStages$Shelf", "size", "()I"⟩, ⟨"ReadingStages$Board", "size", "()I"⟩), ("ReadingStages$Board", ⟨"ReadingStages$Shelf", "at", "(I)I"⟩, ⟨"ReadingStages$Board", "at", "(I)I"⟩), ("ReadingStages$Board", ⟨"ReadingStages$Shelf", "number", "()I"⟩, ⟨"ReadingStages$Shelf", "number", "()I"⟩), ("ReadingStages$Board", ⟨"ReadingStages$Shelf", "holds", "([B)Z"⟩, ⟨"ReadingStages$Shelf", "holds", "([B)Z"⟩), ("java/lang/String", ⟨"java/lang/CharSequence", "toString", "()Ljava/lang/String;"⟩, ⟨"java/lang/String", "toString", "()Ljava/lang/String;"⟩)]
def amAO : List String := ["ReadingStages$Rule", "ReadingStages$House", "ReadingStages$Sheet"]
def amSt : List (String × String × String × Value) := [("java/lang/String", "COMPACT_STRINGS", "Z", .int 1), ("java/lang/Integer", "DigitTens", "[B", .ref 16), ("java/lang/Integer", "DigitOnes", "[B", .ref 17)]
def amSr : List (String × Nat × String × Nat) := [("ReadingStages", 279, "", 0), ("ReadingStages", 281, " ", 1), ("ReadingStages", 268, "+", 2), ("ReadingStages", 277, "-", 3), ("ReadingStages", 287, "none", 4), ("ReadingStages", 403, "steady", 5), ("ReadingStages", 409, "growing", 6), ("ReadingStages", 411, "doubling", 7)]
/-- words of the start that are no rows of the tables, or do not ride by themselves -/
def amGW : List Cond := [.landsInDefault "ReadingStages$Board" ⟨"ReadingStages$Board", "number", "()I"⟩ ⟨"ReadingStages$Shelf", "number", "()I"⟩, .landsInDefault "ReadingStages$Board" ⟨"ReadingStages$Board", "find", "(I)I"⟩ ⟨"ReadingStages$Shelf", "find", "(I)I"⟩, .landsInDefault "ReadingStages$Board" ⟨"ReadingStages$Board", "holds", "([B)Z"⟩ ⟨"ReadingStages$Shelf", "holds", "([B)Z"⟩, .landsInDefault "ReadingStages$Board" ⟨"ReadingStages$Shelf", "number", "()I"⟩ ⟨"ReadingStages$Shelf", "number", "()I"⟩, .landsInDefault "ReadingStages$Board" ⟨"ReadingStages$Shelf", "holds", "([B)Z"⟩ ⟨"ReadingStages$Shelf", "holds", "([B)Z"⟩, .methodLink "ReadingStages" 220 ⟨"ReadingStages$Board", "number", "()I"⟩, .methodLink "ReadingStages" 248 ⟨"ReadingStages$Board", "find", "(I)I"⟩, .methodLink "ReadingStages" 254 ⟨"ReadingStages$Board", "holds", "([B)Z"⟩, .methodLink "ReadingStages$Board" 25 ⟨"ReadingStages$Board", "find", "(I)I"⟩, .sameMethod "ReadingStages$Board" "ReadingStages$Shelf" "number" "()I", .sameMethod "ReadingStages$Board" "ReadingStages$Shelf" "find" "(I)I", .sameMethod "ReadingStages$Board" "ReadingStages$Shelf" "holds" "([B)Z", .declares ⟨"ReadingStages$Shelf", "number", "()I"⟩, .declares ⟨"ReadingStages$Shelf", "find", "(I)I"⟩, .declares ⟨"ReadingStages$Shelf", "holds", "([B)Z"⟩, .publicMethod ⟨"ReadingStages$Shelf", "number", "()I"⟩, .publicMethod ⟨"ReadingStages$Shelf", "find", "(I)I"⟩, .publicMethod ⟨"ReadingStages$Shelf", "holds", "([B)Z"⟩, .interfaceMethod "ReadingStages$Shelf" "ReadingStages$Shelf" "number" "()I", .interfaceMethod "ReadingStages$Shelf" "ReadingStages$Shelf" "holds" "([B)Z", .castable "ReadingStages$Board" "ReadingStages$Shelf", .castable "java/lang/NullPointerException" "java/lang/NullPointerException", .castable "java/lang/RuntimeException" "java/lang/Throwable", .castable "java/lang/ClassCastException" "java/lang/ClassCastException", .castable "java/lang/ArrayIndexOutOfBoundsException" "java/lang/ArrayIndexOutOfBoundsException", .castable "java/lang/NegativeArraySizeException" "java/lang/NegativeArraySizeException", .castable "java/lang/ArrayStoreException" "java/lang/ArrayStoreException", .castable "java/lang/ArrayIndexOutOfBoundsException" "java/lang/IndexOutOfBoundsException", .castable "ReadingStages$Fault" "ReadingStages$Fault", .declares ⟨"java/lang/RuntimeException", "<init>", "()V"⟩, .declares ⟨"java/lang/Exception", "<init>", "()V"⟩, .declares ⟨"java/lang/Throwable", "<init>", "()V"⟩, .declares ⟨"java/lang/RuntimeException", "<init>", "(Ljava/lang/String;)V"⟩, .declares ⟨"java/lang/Exception", "<init>", "(Ljava/lang/String;)V"⟩, .declares ⟨"java/lang/Throwable", "<init>", "(Ljava/lang/String;)V"⟩, .declares ⟨"java/lang/IndexOutOfBoundsException", "<init>", "(Ljava/lang/String;)V"⟩, .declares ⟨"ReadingStages$Rule", "lasts", "(I)I"⟩, .declares ⟨"ReadingStages$Ask", "goesOn", "(LReadingStages$Shelf;)Z"⟩, .interfaceMethod "ReadingStages$Rule" "ReadingStages$Rule" "lasts" "(I)I", .interfaceMethod "ReadingStages$Ask" "ReadingStages$Ask" "goesOn" "(LReadingStages$Shelf;)Z", .selects "java/lang/StringBuilder" ⟨"java/lang/AbstractStringBuilder", "ensureCapacityInternal", "(I)V"⟩ ⟨"java/lang/AbstractStringBuilder", "ensureCapacityInternal", "(I)V"⟩, .selects "java/lang/StringBuilder" ⟨"java/lang/AbstractStringBuilder", "newCapacity", "(I)I"⟩ ⟨"java/lang/AbstractStringBuilder", "newCapacity", "(I)I"⟩, .selects "java/lang/StringBuilder" ⟨"java/lang/AbstractStringBuilder", "putStringAt", "(ILjava/lang/String;)V"⟩ ⟨"java/lang/AbstractStringBuilder", "putStringAt", "(ILjava/lang/String;)V"⟩, .selects "java/lang/StringBuilder" ⟨"java/lang/AbstractStringBuilder", "inflateIfNeededFor", "(Ljava/lang/String;)V"⟩ ⟨"java/lang/AbstractStringBuilder", "inflateIfNeededFor", "(Ljava/lang/String;)V"⟩, .castable "[B" "java/lang/Cloneable"]
/-- a word that hangs on the tables alone -/
def amTb (w : Cond) : Prop := ∀ (A A' : Array Value) (U U' : State) (vm : Vm), w.before A (U.setVm vm) = w.before A' (U'.setVm vm)
theorem amTb.of {w : Cond} (h : w.onTables = true) : amTb w := fun _ _ _ _ vm => Cond.onTables_vm vm w h
theorem amTb.go {w : Cond} (h : amTb w) {A A' : Array Value} {u U : State} (hv : U.vm = u.vm) (hw : w.before A u = true) : w.before A' U = true := by
  have h1 : U = U.setVm u.vm := by rw [← hv]; rfl
  have h2 : u = u.setVm u.vm := rfl
  rw [h1, h A' A U u u.vm, ← h2]
  exact hw
theorem amGW_mv : ∀ w ∈ amGW, amTb w ∧ ∀ s U : State, s.WarmedH U.vm → va_Nw w s → va_Nw w U := by
  refine List.forall_mem_cons.mpr ⟨⟨fun _ _ _ _ _ => rfl, fun s U hW hZ => amTb.go (w := _) (fun _ _ _ _ _ => rfl) (A := #[]) (u := s.setVm U.vm) rfl (by rw [Cond.landsInDefault_setVm hW.alike (State.methodFound?_setVm hW.alike _ _ _)]; exact hZ)⟩, ?_⟩
  refine List.forall_mem_cons.mpr ⟨⟨fun _ _ _ _ _ => rfl, fun s U hW hZ => amTb.go (w := _) (fun _ _ _ _ _ => rfl) (A := #[]) (u := s.setVm U.vm) rfl (by rw [Cond.landsInDefault_setVm hW.alike (State.methodFound?_setVm hW.alike _ _ _)]; exact hZ)⟩, ?_⟩
  refine List.forall_mem_cons.mpr ⟨⟨fun _ _ _ _ _ => rfl, fun s U hW hZ => amTb.go (w := _) (fun _ _ _ _ _ => rfl) (A := #[]) (u := s.setVm U.vm) rfl (by rw [Cond.landsInDefault_setVm hW.alike (State.methodFound?_setVm hW.alike _ _ _)]; exact hZ)⟩, ?_⟩
  refine List.forall_mem_cons.mpr ⟨⟨fun _ _ _ _ _ => rfl, fun s U hW hZ => amTb.go (w := _) (fun _ _ _ _ _ => rfl) (A := #[]) (u := s.setVm U.vm) rfl (by rw [Cond.landsInDefault_setVm hW.alike (State.methodFound?_setVm hW.alike _ _ _)]; exact hZ)⟩, ?_⟩
  refine List.forall_mem_cons.mpr ⟨⟨fun _ _ _ _ _ => rfl, fun s U hW hZ => amTb.go (w := _) (fun _ _ _ _ _ => rfl) (A := #[]) (u := s.setVm U.vm) rfl (by rw [Cond.landsInDefault_setVm hW.alike (State.methodFound?_setVm hW.alike _ _ _)]; exact hZ)⟩, ?_⟩
  refine List.forall_mem_cons.mpr ⟨⟨amTb.of rfl, fun s U hW hZ => word_at hW (Or.inl rfl) hZ⟩, ?_⟩
  refine List.forall_mem_cons.mpr ⟨⟨amTb.of rfl, fun s U hW hZ => word_at hW (Or.inl rfl) hZ⟩, ?_⟩
  refine List.forall_mem_cons.mpr ⟨⟨amTb.of rfl, fun s U hW hZ => word_at hW (Or.inl rfl) hZ⟩, ?_⟩
  refine List.forall_mem_cons.mpr ⟨⟨amTb.of rfl, fun s U hW hZ => word_at hW (Or.inl rfl) hZ⟩, ?_⟩
  refine List.forall_mem_cons.mpr ⟨⟨amTb.of rfl, fun s U hW hZ => word_at hW (Or.inl rfl) hZ⟩, ?_⟩
  refine List.forall_mem_cons.mpr ⟨⟨amTb.of rfl, fun s U hW hZ => word_at hW (Or.inl rfl) hZ⟩, ?_⟩
  refine List.forall_mem_cons.mpr ⟨⟨amTb.of rfl, fun s U hW hZ => word_at hW (Or.inl rfl) hZ⟩, ?_⟩
  refine List.forall_mem_cons.mpr ⟨⟨amTb.of rfl, fun s U hW hZ => va_Nw.warmD hW hZ⟩, ?_⟩
  refine List.forall_mem_cons.mpr ⟨⟨amTb.of rfl, fun s U hW hZ => va_Nw.warmD hW hZ⟩, ?_⟩
  refine List.forall_mem_cons.mpr ⟨⟨amTb.of rfl, fun s U hW hZ => va_Nw.warmD hW hZ⟩, ?_⟩
  refine List.forall_mem_cons.mpr ⟨⟨amTb.of rfl, fun s U hW hZ => va_tabs rfl (rfl : (s.setVm U.vm).vm = U.vm) (by rw [Cond.publicMethod_setVm hW.alike]; exact hZ)⟩, ?_⟩
  refine List.forall_mem_cons.mpr ⟨⟨amTb.of rfl, fun s U hW hZ => va_tabs rfl (rfl : (s.setVm U.vm).vm = U.vm) (by rw [Cond.publicMethod_setVm hW.alike]; exact hZ)⟩, ?_⟩
  refine List.forall_mem_cons.mpr ⟨⟨amTb.of rfl, fun s U hW hZ => va_tabs rfl (rfl : (s.setVm U.vm).vm = U.vm) (by rw [Cond.publicMethod_setVm hW.alike]; exact hZ)⟩, ?_⟩
  refine List.forall_mem_cons.mpr ⟨⟨amTb.of rfl, fun s U hW hZ => va_tabs rfl (rfl : (s.setVm U.vm).vm = U.vm) (by obtain ⟨cL, kL, r1, hcL, hkL, hiL, hfoundL, hn1⟩ := Cond.interfaceMethod_spec hZ; rw [Cond.interfaceMethod_setVm hW.alike (r := r1) hn1 ⟨by decide +kernel, by decide +kernel⟩]; exact hZ)⟩, ?_⟩
  refine List.forall_mem_cons.mpr ⟨⟨amTb.of rfl, fun s U hW hZ => va_tabs rfl (rfl : (s.setVm U.vm).vm = U.vm) (by obtain ⟨cL, kL, r1, hcL, hkL, hiL, hfoundL, hn1⟩ := Cond.interfaceMethod_spec hZ; rw [Cond.interfaceMethod_setVm hW.alike (r := r1) hn1 ⟨by decide +kernel, by decide +kernel⟩]; exact hZ)⟩, ?_⟩
  refine List.forall_mem_cons.mpr ⟨⟨amTb.of rfl, fun s U hW hZ => va_Nw.warmC hW hZ⟩, ?_⟩
  refine List.forall_mem_cons.mpr ⟨⟨amTb.of rfl, fun s U hW hZ => va_Nw.warmC hW hZ⟩, ?_⟩
  refine List.forall_mem_cons.mpr ⟨⟨amTb.of rfl, fun s U hW hZ => va_Nw.warmC hW hZ⟩, ?_⟩
  refine List.forall_mem_cons.mpr ⟨⟨amTb.of rfl, fun s U hW hZ => va_Nw.warmC hW hZ⟩, ?_⟩
  refine List.forall_mem_cons.mpr ⟨⟨amTb.of rfl, fun s U hW hZ => va_Nw.warmC hW hZ⟩, ?_⟩
  refine List.forall_mem_cons.mpr ⟨⟨amTb.of rfl, fun s U hW hZ => va_Nw.warmC hW hZ⟩, ?_⟩
  refine List.forall_mem_cons.mpr ⟨⟨amTb.of rfl, fun s U hW hZ => va_Nw.warmC hW hZ⟩, ?_⟩
  refine List.forall_mem_cons.mpr ⟨⟨amTb.of rfl, fun s U hW hZ => va_Nw.warmC hW hZ⟩, ?_⟩
  refine List.forall_mem_cons.mpr ⟨⟨amTb.of rfl, fun s U hW hZ => va_Nw.warmC hW hZ⟩, ?_⟩
  refine List.forall_mem_cons.mpr ⟨⟨amTb.of rfl, fun s U hW hZ => va_Nw.warmD hW hZ⟩, ?_⟩
  refine List.forall_mem_cons.mpr ⟨⟨amTb.of rfl, fun s U hW hZ => va_Nw.warmD hW hZ⟩, ?_⟩
  refine List.forall_mem_cons.mpr ⟨⟨amTb.of rfl, fun s U hW hZ => va_Nw.warmD hW hZ⟩, ?_⟩
  refine List.forall_mem_cons.mpr ⟨⟨amTb.of rfl, fun s U hW hZ => va_Nw.warmD hW hZ⟩, ?_⟩
  refine List.forall_mem_cons.mpr ⟨⟨amTb.of rfl, fun s U hW hZ => va_Nw.warmD hW hZ⟩, ?_⟩
  refine List.forall_mem_cons.mpr ⟨⟨amTb.of rfl, fun s U hW hZ => va_Nw.warmD hW hZ⟩, ?_⟩
  refine List.forall_mem_cons.mpr ⟨⟨amTb.of rfl, fun s U hW hZ => va_Nw.warmD hW hZ⟩, ?_⟩
  refine List.forall_mem_cons.mpr ⟨⟨amTb.of rfl, fun s U hW hZ => va_Nw.warmD hW hZ⟩, ?_⟩
  refine List.forall_mem_cons.mpr ⟨⟨amTb.of rfl, fun s U hW hZ => va_Nw.warmD hW hZ⟩, ?_⟩
  refine List.forall_mem_cons.mpr ⟨⟨amTb.of rfl, fun s U hW hZ => va_tabs rfl (rfl : (s.setVm U.vm).vm = U.vm) (by obtain ⟨cL, kL, r1, hcL, hkL, hiL, hfoundL, hn1⟩ := Cond.interfaceMethod_spec hZ; rw [Cond.interfaceMethod_setVm hW.alike (r := r1) hn1 ⟨by decide +kernel, by decide +kernel⟩]; exact hZ)⟩, ?_⟩
  refine List.forall_mem_cons.mpr ⟨⟨amTb.of rfl, fun s U hW hZ => va_tabs rfl (rfl : (s.setVm U.vm).vm = U.vm) (by obtain ⟨cL, kL, r1, hcL, hkL, hiL, hfoundL, hn1⟩ := Cond.interfaceMethod_spec hZ; rw [Cond.interfaceMethod_setVm hW.alike (r := r1) hn1 ⟨by decide +kernel, by decide +kernel⟩]; exact hZ)⟩, ?_⟩
  refine List.forall_mem_cons.mpr ⟨⟨amTb.of rfl, fun s U hW hZ => word_at hW (Or.inl rfl) hZ⟩, ?_⟩
  refine List.forall_mem_cons.mpr ⟨⟨amTb.of rfl, fun s U hW hZ => word_at hW (Or.inl rfl) hZ⟩, ?_⟩
  refine List.forall_mem_cons.mpr ⟨⟨amTb.of rfl, fun s U hW hZ => word_at hW (Or.inl rfl) hZ⟩, ?_⟩
  refine List.forall_mem_cons.mpr ⟨⟨amTb.of rfl, fun s U hW hZ => word_at hW (Or.inl rfl) hZ⟩, ?_⟩
  refine List.forall_mem_cons.mpr ⟨⟨amTb.of rfl, fun s U hW hZ => va_Nw.warmC hW hZ⟩, ?_⟩
  exact fun _ h => absurd h List.not_mem_nil
def sgR (i : String) : Lambda.Shape := { iface := "ReadingStages$Rule", name := "lasts", sam := ⟨[.int], some .int⟩, captured := [.object "ReadingStages"], kind := 5, implClass := "ReadingStages", implName := i, implDesc := ⟨[.int], some .int⟩, implItf := false, inst := ⟨[.int], some .int⟩ }
def sgA (i : String) (cap d : List FieldType) : Lambda.Shape := { iface := "ReadingStages$Ask", name := "goesOn", sam := ⟨[.object "ReadingStages$Shelf"], some .boolean⟩, captured := cap, kind := 5, implClass := "ReadingStages", implName := i, implDesc := ⟨d, some .boolean⟩, implItf := false, inst := ⟨[.object "ReadingStages$Shelf"], some .boolean⟩ }
/-- the seven sites: method, place, entry, shape, kind -/
def amLm : List (MethodName × Nat × Nat × Lambda.Shape × Nat) := [(⟨"ReadingStages", "<init>", "()V"⟩, 235, 92, sgR "lambda$new$0", 20), (⟨"ReadingStages", "<init>", "()V"⟩, 247, 95, sgR "lambda$new$1", 21), (⟨"ReadingStages", "<init>", "()V"⟩, 259, 96, sgR "lambda$new$2", 22), (⟨"ReadingStages", "layBest", "()V"⟩, 20, 195, sgA "lambda$layBest$3" [.object "ReadingStages"] [.object "ReadingStages$Shelf"], 23), (⟨"ReadingStages", "many", "(I)I"⟩, 15, 223, sgA "lambda$many$4" [.object "ReadingStages", .int] [.int, .object "ReadingStages$Shelf"], 24), (⟨"ReadingStages", "fit", "(I)I"⟩, 15, 229, sgA "lambda$fit$5" [.object "ReadingStages", .int] [.int, .object "ReadingStages$Shelf"], 25), (⟨"ReadingStages", "seen", "(III)I"⟩, 97, 460, sgA "lambda$seen$6" [.object "ReadingStages", .object "ReadingStages$Sheet", .int] [.object "ReadingStages$Sheet", .int, .object "ReadingStages$Shelf"], 26)]
def amLamK (G : amG) (U : State) : Prop := ∀ q ∈ amLm, U.lambdaAt? q.1 q.2.1 q.2.2.1 q.2.2.2.1 = some (G.2.1 q.2.2.2.2, none)
theorem amLamAt {s U : State} (hW : s.WarmedH U.vm) {x : MethodName} {pc index : Nat} {σ : Lambda.Shape} {c : ClassId} (h : s.lambdaAt? x pc index σ = some (c, none)) : U.lambdaAt? x pc index σ = some (c, none) := by
  obtain ⟨m, kc, cf, i0, p0, l, hm, hk, hcf, hsh, hin, hfind, hmade, hcall, hl⟩ := State.lambdaAt?_spec h
  have hcall' : U.lambdaCallable σ c = true := by
    have hA := hW.alike
    simp only [State.lambdaCallable, hA.findClass, hA.assignable, hA.superclasses, hA.declaredIn] at hcall ⊢
    exact hcall
  obtain ⟨kc', hk', he⟩ := hW.alike.2.2 _ _ hk
  have hm' : U.methodNamed? x = some m := by
    have := State.methodNamed?_setVm (s := s) hW.alike x
    rw [hm] at this
    exact this
  have hcf' : kc'.cf = some cf := by rw [he]; exact hcf
  have hin' : (m.idx, pc, index, σ) ∈ Lambda.sitesOf kc' := by rw [he]; exact hin
  have hfind' : (kc'.callSites.find? fun y => y.1 == m.idx && y.2.1 == pc) = some (i0, p0, l) := by rw [he]; exact hfind
  have hmade' := Lambda.isMade_warmer hW hmade
  obtain ⟨m2, k2, hm2, hk2, hjdk, howes⟩ := State.lambdaAt?_road h
  cases hm.symm.trans hm2
  cases hk.symm.trans hk2
  have hjdk' : jdkName kc'.name = false := by rw [he]; exact hjdk
  have howes' : (U.vm.findClass σ.iface).bind (Lambda.owesInit U.vm) = none := by
    rw [hW.alike.findClass]
    cases hfi : s.vm.findClass σ.iface with
    | none => rfl
    | some i => rw [hfi] at howes; simpa [Lambda.owesInit_alike hW.alike] using howes
  have hany : ((Lambda.sitesOf kc').any fun y => decide (y = (m.idx, pc, index, σ))) = true := by simpa using hin'
  rcases hl with ⟨a, cell, -, h2, -⟩ | ⟨rfl, -, hcap⟩
  · cases h2
  · simp [State.lambdaAt?, guard, hjdk', howes', hm', hk', hcf', hsh, hany, hfind', hcap, hmade', hcall']
/-- statics of which alone it is said that they hold null or an object; where the object would lie -/
def amSx : List (String × String × String × Nat) := [("java/lang/Throwable", "UNASSIGNED_STACK", "[Ljava/lang/StackTraceElement;", 20), ("java/lang/Throwable", "SUPPRESSED_SENTINEL", "Ljava/util/List;", 21), ("jdk/internal/util/Preconditions", "SIOOBE_FORMATTER", "Ljava/util/function/BiFunction;", 22)]
def amSxAt (G : amG) (q : String × String × String × Nat) (U : State) (H : Heap) : Prop := vx_L q.1 q.2.1 q.2.2.1 (amA G) U H ∧ (va_Z q.1 q.2.1 q.2.2.1 .null (amA G) U H ∨ va_Z q.1 q.2.1 q.2.2.1 (.ref (amAd G q.2.2.2)) (amA G) U H)
theorem amSxAt.moved {G : amG} {q : String × String × String × Nat} {u U : State} {H : Heap} (hvm : u.vm.Alike U.vm) (h : amSxAt G q u H) : amSxAt G q U H := ⟨h.1.moved hvm, h.2.imp (va_Z.moved hvm) (va_Z.moved hvm)⟩
theorem amSxAt.kept {G : amG} {q : String × String × String × Nat} {U : State} {H H1 : Heap} (h : amSxAt G q U H) (hq : ∀ a : Nat, a < H.size → ¬ amA G a → H1[a]? = H[a]?) : amSxAt G q U H1 := ⟨h.1.kept hq, h.2.imp (fun z => va_Z.kept z hq) (fun z => va_Z.kept z hq)⟩
theorem amSxAt.zq {G : amG} {q : String × String × String × Nat} {U : State} {H : Heap} (h : amSxAt G q U H) : vx_Zq q.1 q.2.1 q.2.2.1 (amA G) U H := ⟨h.2.imp id (fun z => ⟨_, z⟩), h.1⟩
/-- pairs of classes of which the first can't be cast to the second -/
def amNc : List (String × String) := [("[B", "[S"), ("[B", "[I"), ("[B", "[J"), ("[S", "[B"), ("[S", "[I"), ("[S", "[J"), ("[I", "[B"), ("[I", "[S"), ("[I", "[J"), ("[J", "[B"), ("[J", "[S"), ("[J", "[I"), ("java/lang/ClassCastException", "java/lang/NullPointerException"), ("java/lang/ArrayIndexOutOfBoundsException", "java/lang/NullPointerException"), ("java/lang/ArrayIndexOutOfBoundsException", "java/lang/ClassCastException"), ("java/lang/ArrayStoreException", "java/lang/NullPointerException"), ("java/lang/ArrayIndexOutOfBoundsException", "java/lang/ArrayStoreException")]
/-- the modules' names -/
def amMod (vm : Vm) : Prop := (vm.modules.all fun m => m.loader.isSome || m.name == "java.base" || !((["", "java/lang"] : List String).any fun p => m.packages.contains p)) = true
theorem amMod.moved {u U : Vm} (h : u.Alike U) (hm : amMod u) : amMod U := by
  unfold amMod
  rw [h.1]
  exact hm
def amKn (G : amG) (U : State) : Prop := va_K G.1 amCl (amTys G) U ∧ (∀ q ∈ amNF, va_Nw (.fieldLinkNest q.1 q.2.1 q.2.2.1 q.2.2.2.1 q.2.2.2.2.1 q.2.2.2.2.2) U) ∧ (∀ q ∈ amNM, va_Nw (.methodLinkNest q.1 q.2.1 q.2.2.1 q.2.2.2) U) ∧ (∀ q ∈ amFW, va_Fw q.1 q.2.1 q.2.2 U) ∧ (∀ C ∈ amAO, va_AO C U) ∧ (∀ q ∈ amSt, va_Z q.1 q.2.1 q.2.2.1 (amV G q.2.2.2) (amA G) U U.heap) ∧ (∀ q ∈ amSr, vk_R q.1 q.2.1 q.2.2.1 (amAd G q.2.2.2) U) ∧ (∀ w ∈ amGW, va_Nw w U) ∧ amLamK G U ∧ (∀ q ∈ amSx, amSxAt G q U U.heap) ∧ (∀ q ∈ amNc, va_Nc q.1 q.2 U) ∧ amMod U.vm
