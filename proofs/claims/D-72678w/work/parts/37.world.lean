/-! the system's world -/
set_option maxRecDepth 100000
/-- its state: the house, what may be undone, the image, the tape, the sheets -/
abbrev XS : Type := HS × List HS × Option (HS × List HS) × List Nat × (Nat → Option (Nat × List Int64))
def KpIs (m : Nat → Nat → Int32) (k : Option (HS × List HS)) : Prop := match k with
  | none => m 24 23 = nI 0
  | some (S, U) => m 24 23 = nI 1 ∧ HsIs m 50 S ∧ hsOk S ∧ U.length ≤ 6 ∧ m 24 22 = nI U.length ∧ (∀ k, k < U.length → HsIs m (66 + 10 * k) (U.getD k HS0)) ∧ ∀ S ∈ U, hsOk S
def TpIs (m : Nat → Nat → Int32) (t : List Nat) : Prop := t.length ≤ 90 ∧ m 43 1 = nI t.length ∧ (∀ i, i < t.length → m 44 i = nI (t.getD i 0)) ∧ ∀ c ∈ t, 32 ≤ c ∧ c ≤ 126
/-- the kind of a lane's row -/
def laneK (k : Nat) : Nat := if k = 0 then 2 else if k = 1 then 4 else if k = 2 then 1 else 5
def ShIs1 (h : amH) (s : Nat) (v : Option (Nat × List Int64)) : Prop := match v with
  | none => h.2.2.2.1 (57 + s) 0 = none
  | some (k, vs) => k < 4 ∧ vs.length ≤ 24 ∧ ∃ i, 143 ≤ i ∧ i < h.2.2.2.2 ∧ h.2.2.2.1 (57 + s) 0 = some i ∧ h.1 i = (laneK k, vs.length) ∧ ∀ p, p < vs.length → vs.getD p 0 = if k = 3 then h.2.2.1 i p else (h.2.1 i p).toInt64
def ShIs (h : amH) (sh : Nat → Option (Nat × List Int64)) : Prop := (∀ s, s < 4 → ShIs1 h s (sh s)) ∧ ∀ s t i, s < 4 → t < 4 → h.2.2.2.1 (57 + s) 0 = some i → h.2.2.2.1 (57 + t) 0 = some i → s = t
def RsW (h : amH) (X : XS) : Prop := sysPre h X.1 ∧ psAt h ∧ (∀ k : Nat, k < 6 → h.2.2.2.1 55 k = some (66 + 10 * k)) ∧ UnIs h.2.1 h.2.2.2.1 X.2.1 ∧ (∀ S ∈ X.2.1, hsOk S) ∧ KpIs h.2.1 X.2.2.1 ∧ TpIs h.2.1 X.2.2.2.1 ∧ ShIs h X.2.2.2.2
/-- the reference's cells are as they were -/
def rsFr (h h' : amH) : Prop := h.2.2.2.2 ≤ h'.2.2.2.2 ∧ ∀ i : Nat, 124 ≤ i → i < 143 → amSame h h' i
/-- what an act may change -/
def opFr (h h' : amH) : Prop := h.2.2.2.2 ≤ h'.2.2.2.2 ∧ (∀ i : Nat, i < h.2.2.2.2 → h'.1 i = h.1 i ∧ h'.2.2.1 i = h.2.2.1 i ∧ (i ≠ 41 → h'.2.2.2.1 i = h.2.2.2.1 i) ∧ (i ≠ 24 → (i < 25 ∨ 30 ≤ i) → (i < 31 ∨ 41 ≤ i) → ¬ pastC i → h'.2.1 i = h.2.1 i)) ∧ ∀ j : Nat, (j < 10 ∨ (14 ≤ j ∧ j ≠ 15)) → h'.2.1 24 j = h.2.1 24 j
theorem opFr.rf (h : amH) : opFr h h := ⟨Nat.le_refl _, fun _ _ => ⟨rfl, rfl, fun _ => rfl, fun _ _ _ _ => rfl⟩, fun _ _ => rfl⟩
theorem opFr.tr {h h2 h3 : amH} (a : opFr h h2) (b : opFr h2 h3) : opFr h h3 := by
  refine ⟨Nat.le_trans a.1 b.1, fun i hi => ?_, fun j hj => (b.2.2 j hj).trans (a.2.2 j hj)⟩
  obtain ⟨a1, a2, a3, a4⟩ := a.2.1 i hi
  obtain ⟨b1, b2, b3, b4⟩ := b.2.1 i (Nat.lt_of_lt_of_le hi a.1)
  exact ⟨b1.trans a1, b2.trans a2, fun q => (b3 q).trans (a3 q), fun q1 q2 q3 q4 => (b4 q1 q2 q3 q4).trans (a4 q1 q2 q3 q4)⟩
theorem opFr.rs {h h' : amH} (hn : 143 ≤ h.2.2.2.2) (f : opFr h h') : rsFr h h' := ⟨f.1, fun i h1 h2 => by
  obtain ⟨a1, a2, a3, a4⟩ := f.2.1 i (by omega)
  exact ⟨a1, a4 (by omega) (by omega) (by omega) (by unfold pastC; omega), a2, a3 (by omega)⟩⟩
theorem hsAt.mv {h h' : amH} {a : Nat} (q : hsAt h a) (e1 : ∀ i : Nat, a ≤ i → i < a + 5 → h'.1 i = h.1 i ∧ h'.2.2.2.1 i = h.2.2.2.1 i) : hsAt h' a := by
  obtain ⟨a1, a2, a3, a4, a5, a6, a7, a8, a9⟩ := q
  refine ⟨?_, ?_, ?_, ?_, ?_, ?_, ?_, ?_, ?_⟩
  · rw [(e1 a (by omega) (by omega)).1]; exact a1
  · rw [(e1 (a + 1) (by omega) (by omega)).1]; exact a2
  · rw [(e1 (a + 2) (by omega) (by omega)).1]; exact a3
  · rw [(e1 a (by omega) (by omega)).2]; exact a4
  · rw [(e1 a (by omega) (by omega)).2]; exact a5
  · rw [(e1 a (by omega) (by omega)).2]; exact a6
  · rw [(e1 (a + 3) (by omega) (by omega)).1]; exact a7
  · rw [(e1 (a + 3 + 1) (by omega) (by omega)).1]; exact a8
  · rw [(e1 (a + 3) (by omega) (by omega)).2]; exact a9
theorem opFr.ps {h h' : amH} (hn : 143 ≤ h.2.2.2.2) (f : opFr h h') (q : psAt h) : psAt h' := fun j hj => ⟨(q j hj).1.mv (fun i h1 h2 => ⟨(f.2.1 i (by omega)).1, (f.2.1 i (by omega)).2.2.1 (by omega)⟩), (q j hj).2.mv (fun i h1 h2 => ⟨(f.2.1 i (by omega)).1, (f.2.1 i (by omega)).2.2.1 (by omega)⟩)⟩
theorem opFr.at {h h' : amH} (hn : 143 ≤ h.2.2.2.2) (f : opFr h h') (q : rsAt h) : rsAt h' := q.mv (fun i hi => (f.2.1 i (by omega)).1) (fun i hi h1 _ _ => (f.2.1 i (by omega)).2.2.1 h1)
theorem opFr.int {h h' : amH} (hn : 143 ≤ h.2.2.2.2) (f : opFr h h') {i : Nat} (hi : i < h.2.2.2.2) (h1 : i ≠ 24) (h2 : i < 25 ∨ 30 ≤ i) (h3 : i < 31 ∨ 41 ≤ i) (h4 : ¬ pastC i) : h'.2.1 i = h.2.1 i := (f.2.1 i hi).2.2.2 h1 h2 h3 h4
theorem KpIs.mv {h h' : amH} (hn : 143 ≤ h.2.2.2.2) (f : opFr h h') {k : Option (HS × List HS)} (q : KpIs h.2.1 k) : KpIs h'.2.1 k := by
  cases k with
  | none => show _ = _; rw [f.2.2 23 (by decide)]; exact q
  | some v =>
    obtain ⟨S, U⟩ := v
    obtain ⟨q1, q2, q3, q4, q5, q6, q7⟩ := q
    refine ⟨?_, ?_, q3, q4, ?_, fun k hk => ?_, q7⟩
    · rw [f.2.2 23 (by decide)]; exact q1
    · exact q2.kept (fun i h1 h2 => f.int hn (by omega) (by omega) (by omega) (by omega) (by unfold pastC; omega))
    · rw [f.2.2 22 (by decide)]; exact q5
    · exact (q6 k hk).kept (fun i h1 h2 => f.int hn (by omega) (by omega) (by omega) (by omega) (by unfold pastC; omega))
theorem TpIs.mv {m m' : Nat → Nat → Int32} {t : List Nat} (q : TpIs m t) (e1 : m' 43 = m 43) (e2 : m' 44 = m 44) : TpIs m' t := ⟨q.1, by rw [e1]; exact q.2.1, fun i hi => by rw [e2]; exact q.2.2.1 i hi, q.2.2.2⟩
theorem ShIs1.mv {h h' : amH} {s : Nat} {v : Option (Nat × List Int64)} (q : ShIs1 h s v) (hr : h'.2.2.2.1 (57 + s) 0 = h.2.2.2.1 (57 + s) 0) (hn : h.2.2.2.2 ≤ h'.2.2.2.2) (hs : ∀ i, 143 ≤ i → i < h.2.2.2.2 → h'.1 i = h.1 i ∧ h'.2.1 i = h.2.1 i ∧ h'.2.2.1 i = h.2.2.1 i) : ShIs1 h' s v := by
  cases v with
  | none => show _ = _; rw [hr]; exact q
  | some w =>
    obtain ⟨k, vs⟩ := w
    obtain ⟨q1, q2, i, q3, q4, q5, q6, q7⟩ := q
    obtain ⟨e1, e2, e3⟩ := hs i q3 q4
    refine ⟨q1, q2, i, q3, by omega, by rw [hr]; exact q5, by rw [e1]; exact q6, fun p hp => ?_⟩
    rw [e2, e3]
    exact q7 p hp
theorem ShIs.mv {h h' : amH} {sh : Nat → Option (Nat × List Int64)} (q : ShIs h sh) (hr : ∀ s : Nat, s < 4 → h'.2.2.2.1 (57 + s) = h.2.2.2.1 (57 + s)) (hn : h.2.2.2.2 ≤ h'.2.2.2.2) (hs : ∀ i, 143 ≤ i → i < h.2.2.2.2 → h'.1 i = h.1 i ∧ h'.2.1 i = h.2.1 i ∧ h'.2.2.1 i = h.2.2.1 i) : ShIs h' sh := ⟨fun s hs4 => (q.1 s hs4).mv (by rw [hr s hs4]) hn hs, fun s t i h1 h2 h3 h4 => q.2 s t i h1 h2 (by rw [← hr s h1]; exact h3) (by rw [← hr t h2]; exact h4)⟩
/-- an act's end -/
theorem RsW.op {h h' : amH} {X : XS} (w : RsW h X) (f : opFr h h') {S : HS} {U : List HS} (hS : HsIs h'.2.1 25 S) (hO : hsOk S) (hU : UnIs h'.2.1 h'.2.2.2.1 U) (hUO : ∀ S ∈ U, hsOk S) : RsW h' (S, U, X.2.2) := by
  obtain ⟨⟨w1, w2, w3, w4⟩, w5, w6, w7, w8, w9, w10, w11⟩ := w
  refine ⟨⟨f.at w4 w1, hS, hO, Nat.le_trans w4 f.1⟩, f.ps w4 w5, fun k hk => ?_, hU, hUO, w9.mv w4 f, w10.mv (f.int w4 (by omega) (by decide) (by decide) (by decide) (by unfold pastC; decide)) (f.int w4 (by omega) (by decide) (by decide) (by decide) (by unfold pastC; decide)), w11.mv (fun s hs => (f.2.1 _ (by omega)).2.2.1 (by omega)) f.1 (fun i h1 h2 => ⟨(f.2.1 i h2).1, f.int w4 h2 (by omega) (by omega) (by omega) (by unfold pastC; omega), (f.2.1 i h2).2.1⟩)⟩
  rw [(f.2.1 55 (by omega)).2.2.1 (by decide)]
  exact w6 k hk
theorem UnIs.mv {m m' : Nat → Nat → Int32} {r r' : Nat → Nat → Option Nat} {U : List HS} (q : UnIs m r U) (e1 : m' 24 15 = m 24 15) (e2 : r' 41 = r 41) (e3 : ∀ i : Nat, pastC i → m' i = m i) : UnIs m' r' U := by
  obtain ⟨q1, q2, σ, q3, q4, q5, q6⟩ := q
  refine ⟨q1, by rw [e1]; exact q2, σ, q3, q4, fun k hk => by rw [e2]; exact q5 k hk, fun k hk => (q6 k hk).kept (fun i h1 h2 => e3 i ?_)⟩
  have := q3 k (by omega)
  unfold pastC
  omega
theorem noteU_ok {U : List HS} {S : HS} (hU : ∀ S ∈ U, hsOk S) (hS : hsOk S) : ∀ S' ∈ noteU U S, hsOk S' := by
  intro S' h
  unfold noteU at h
  rcases List.mem_append.mp h with q | q
  · split at q
    · exact hU _ (List.mem_of_mem_tail q)
    · exact hU _ q
  · rw [List.mem_singleton.mp q]; exact hS
