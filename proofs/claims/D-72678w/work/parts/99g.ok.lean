/-! the contracts as the law uses them -/
set_option maxRecDepth 100000
def okX (T : amT) (as : List Value) (R : XS → XS × Int32) : Prop := ∀ h X K, RsW h X → (∀ h', rsFr h h' → RsW h' (R X).1 → K (some (.int (R X).2)) h') → T (.ref 24 :: as) h K
def okM (T : amT) (as : List Value) (R : XS → XS × Int32) : Prop := ∀ h X K, MdW h X → hsOk X.1 → tOk X.2.2.2.1 → (∀ h', msFr h h' → MdW h' (R X).1 → K (some (.int (R X).2)) h') → T (.ref 124 :: as) h K
theorem LwS.m {g h' : amH} {X Y Y1 : XS} (w : LwS g X Y) (f : msFr g h') (w1 : MdW h' Y1) : LwS (amFix g h') X Y1 := by
  obtain ⟨a1, a2⟩ := w
  exact ⟨(a1.ms f).hi (fun i hi => amFix_hi hi) rfl, MdW.rs (h := h') w1 ⟨Nat.le_refl _, fun i h1 h2 => amFix_hi (by omega)⟩⟩
/-- the reference after a question -/
theorem MdW.qf {h : amH} {X : XS} {m : Nat → Nat → Int32} (w : MdW h X) (f1 : ∀ i : Nat, i ≠ 124 → (i < 134 ∨ 142 ≤ i) → m i = h.2.1 i) (f2 : ∀ j : Nat, (j < 19 ∨ (22 ≤ j ∧ j ≠ 23)) → m 124 j = h.2.1 124 j) : msFr h (amSI h m) ∧ MdW (amSI h m) X := by
  obtain ⟨w1, w2, w3, w4, w5, w6⟩ := w
  exact ⟨msFr.si (fun i hi => f1 i (by omega) (by omega)), w1, w2.kept (f1 125 (by decide) (by decide)), w3.kept (f2 2 (by decide)) (f1 126 (by decide) (by decide)), w4.kept (f2 5 (by decide)) (f1 127 (by decide) (by decide)) (f1 128 (by decide) (by decide)), w5.kept (f2 7 (by decide)) (f1 129 (by decide) (by decide)), w6.kept (f1 130 (by decide) (by decide)) (f1 131 (by decide) (by decide)) rfl⟩
theorem MdW.qq {h : amH} {X : XS} {m : Nat → Nat → Int32} (w : MdW h X) (f : mqFr h.2.1 m) : msFr h (amSI h m) ∧ MdW (amSI h m) X := w.qf (fun i _ h => f i (by omega)) (fun j _ => by rw [f 124 (by decide)])
theorem MdW.qb {h : amH} {X : XS} {m : Nat → Nat → Int32} (w : MdW h X) (f : mbFr h.2.1 m) : msFr h (amSI h m) ∧ MdW (amSI h m) X := w.qf (fun i h1 h => f.1 i h1 (by omega)) (fun j hj => f.2 j (by omega))
theorem MdW.qn {h : amH} {X : XS} {m : Nat → Nat → Int32} (w : MdW h X) (f : mnFr h.2.1 m) : msFr h (amSI h m) ∧ MdW (amSI h m) X := w.qf (fun i h1 h => f.1 i h1 (by omega)) (fun j hj => f.2 j (by omega))
theorem okX_book {x : Int32} : okX tX0_book [.int x] (fun X => bookR X x) := fun h X K w k => ⟨X, rfl, w, k⟩
theorem okM_book {x : Int32} : okM tX6_book [.int x] (fun X => bookR X x) := fun h X K w hO hT k => ⟨X, rfl, w, hO, k⟩
theorem okX_words {x y : Int32} : okX tX0_words [.int x, .int y] (fun X => wordsR X x y) := fun h X K w k => ⟨X, rfl, w, k⟩
theorem okM_words {x y : Int32} : okM tX6_words [.int x, .int y] (fun X => wordsR X x y) := fun h X K w hO hT k => ⟨X, rfl, w, hO, k⟩
theorem okX_lose {x : Int32} : okX tX0_lose [.int x] (fun X => loseR X x) := fun h X K w k => ⟨X, rfl, w, k⟩
theorem okM_lose {x : Int32} : okM tX6_lose [.int x] (fun X => loseR X x) := fun h X K w hO hT k => ⟨X, rfl, w, hO, k⟩
theorem okX_ahead {x y : Int32} : okX tX0_ahead [.int x, .int y] (fun X => aheadR X x y) := fun h X K w k => ⟨X, rfl, w, k⟩
theorem okM_ahead {x y : Int32} : okM tX6_ahead [.int x, .int y] (fun X => aheadR X x y) := fun h X K w hO hT k => ⟨X, rfl, w, hO, k⟩
theorem okX_prior {x : Int32} : okX tX0_prior [.int x] (fun X => priorR X x) := fun h X K w k => ⟨X, rfl, w, k⟩
theorem okM_prior {x : Int32} : okM tX6_prior [.int x] (fun X => priorR X x) := fun h X K w hO hT k => ⟨X, rfl, w, hO, k⟩
theorem okX_tell {x y : Int32} : okX tX0_tell [.int x, .int y] (fun X => tellR X x y) := fun h X K w k => ⟨X, rfl, w, k⟩
theorem okM_tell {x y : Int32} : okM tX6_tell [.int x, .int y] (fun X => tellR X x y) := fun h X K w hO hT k => ⟨X, rfl, w, hO, k⟩
theorem okX_move {x y : Int32} : okX tX0_move [.int x, .int y] (fun X => moveR X x y) := fun h X K w k => ⟨X, rfl, w, k⟩
theorem okM_move {x y : Int32} : okM tX6_move [.int x, .int y] (fun X => moveR X x y) := fun h X K w hO hT k => ⟨X, rfl, w, hO, k⟩
theorem okX_settle {x : Int32} : okX tX0_settle [.int x] (fun X => settleR X x) := fun h X K w k => ⟨X, rfl, w, k⟩
theorem okM_settle {x : Int32} : okM tX6_settle [.int x] (fun X => settleR X x) := fun h X K w hO hT k => ⟨X, rfl, w, hO, k⟩
theorem okX_place {x y : Int32} : okX tX0_place [.int x, .int y] (fun X => (X, placeA X.1 x y)) := fun h X K w k => ⟨X.1, rfl, w.1, fun m' f => k _ (w.rdk f).1 (w.rdk f).2⟩
theorem okM_place {x y : Int32} : okM tX6_place [.int x, .int y] (fun X => (X, placeA X.1 x y)) := fun h X K w hO hT k => ⟨X.1, rfl, w.sys hO, fun m' f => k _ (w.qq f).1 (w.qq f).2⟩
theorem okX_word {x y : Int32} : okX tX0_word [.int x, .int y] (fun X => (X, wordA X.1 x y)) := fun h X K w k => ⟨X.1, rfl, w.1, fun m' f => k _ (w.rdk f).1 (w.rdk f).2⟩
theorem okM_word {x y : Int32} : okM tX6_word [.int x, .int y] (fun X => (X, wordA X.1 x y)) := fun h X K w hO hT k => ⟨X.1, rfl, w.sys hO, fun m' f => k _ (w.qq f).1 (w.qq f).2⟩
theorem okX_told {x y : Int32} : okX tX0_told [.int x, .int y] (fun X => (X, toldA X.1 x y)) := fun h X K w k => ⟨X.1, rfl, w.1, k h (rsFr.rf h) w⟩
theorem okM_told {x y : Int32} : okM tX6_told [.int x, .int y] (fun X => (X, toldA X.1 x y)) := fun h X K w hO hT k => ⟨X.1, rfl, w.sys hO, k h (msFr.rf h) w⟩
theorem okX_count {x : Int32} : okX tX0_count [.int x] (fun X => (X, countV X.1 X.2.1.length x)) := fun h X K w k => ⟨X.1, X.2.1.length, rfl, w.1, w.2.2.2.1.2.1, fun m' f => k _ (w.rdk f).1 (w.rdk f).2⟩
theorem okM_count {x : Int32} : okM tX6_count [.int x] (fun X => (X, countV X.1 X.2.1.length x)) := fun h X K w hO hT k => ⟨X.1, X.2.1.length, rfl, w.sys hO, w.2.2.1.2.1, fun m' f => k _ (w.qq f).1 (w.qq f).2⟩
theorem okX_best {x : Int32} : okX tX0_best [.int x] (fun X => (X, bestA X.1 x)) := fun h X K w k => ⟨X.1, rfl, w.1.ask, w.1.2.2.1.src, fun h' f => k h' (w.askk f).1 (w.askk f).2⟩
theorem okM_best {x : Int32} : okM tX6_best [.int x] (fun X => (X, bestA X.1 x)) := fun h X K w hO hT k => ⟨X.1, rfl, w.sys hO, fun m' f => k _ (w.qb f).1 (w.qb f).2⟩
theorem okX_many {x : Int32} : okX tX0_many [.int x] (fun X => (X, manyA X.1 x)) := fun h X K w k => ⟨X.1, rfl, w.1.ask, fun h' f => k h' (w.askk f).1 (w.askk f).2⟩
theorem okM_many {x : Int32} : okM tX6_many [.int x] (fun X => (X, manyA X.1 x)) := fun h X K w hO hT k => ⟨X.1, rfl, w.sys hO, fun m' f => k _ (w.qq f).1 (w.qq f).2⟩
theorem okX_fit {x : Int32} : okX tX0_fit [.int x] (fun X => (X, fitA X.1 x)) := fun h X K w k => ⟨X.1, rfl, w.1.ask, fun h' f => k h' (w.askk f).1 (w.askk f).2⟩
theorem okM_fit {x : Int32} : okM tX6_fit [.int x] (fun X => (X, fitA X.1 x)) := fun h X K w hO hT k => ⟨X.1, rfl, w.sys hO, fun m' f => k _ (w.qq f).1 (w.qq f).2⟩
theorem okX_kept {x y z : Int32} : okX tX0_kept [.int x, .int y, .int z] (fun X => (X, keptA X.1 x y z)) := fun h X K w k => ⟨X.1, rfl, w.1, fun m' f => k _ (w.rdk f).1 (w.rdk f).2⟩
theorem okM_kept {x y z : Int32} : okM tX6_kept [.int x, .int y, .int z] (fun X => (X, keptA X.1 x y z)) := fun h X K w hO hT k => ⟨X.1, rfl, w.sys hO, fun m' f => k _ (w.qq f).1 (w.qq f).2⟩
theorem okX_letter {x : Int32} : okX tX0_letter [.int x] (fun X => (X, letterR X.1 x)) := fun h X K w k => ⟨X, rfl, w, fun h' f w' => k h' f w'⟩
theorem okM_letter {x : Int32} : okM tX6_letter [.int x] (fun X => (X, letterR X.1 x)) := fun h X K w hO hT k => ⟨X.1, rfl, w.sys hO, fun m' f => k _ (w.qn f).1 (w.qn f).2⟩
theorem okX_type {x : Int32} : okX tX0_type [.int x] (fun X => typeR X x) := fun h X K w k => ⟨X, rfl, w, k⟩
theorem okM_type {x : Int32} : okM tX6_type [.int x] (fun X => typeR X x) := fun h X K w hO hT k => ⟨X, rfl, w, k⟩
theorem okX_read : okX tX0_read [] (fun X => readR X) := fun h X K w k => ⟨X, rfl, w, k⟩
theorem okM_read : okM tX6_read [] (fun X => readR X) := fun h X K w hO hT k => ⟨X, rfl, w, hO, hT, k⟩
theorem okX_drift {x : Int32} : okX tX0_drift [.int x] (fun X => driftR X x) := fun h X K w k => ⟨X, rfl, w, k⟩
theorem okM_drift {x : Int32} : okM tX6_drift [.int x] (fun X => driftR X x) := fun h X K w hO hT k => ⟨X, rfl, w, hO, k⟩
theorem okX_undo : okX tX0_undo [] (fun X => undoR X) := fun h X K w k => ⟨X, rfl, w, k⟩
theorem okM_undo : okM tX6_undo [] (fun X => undoR X) := fun h X K w hO hT k => ⟨X, rfl, w, k⟩
theorem okX_seed {x : Int32} : okX tX0_seed [.int x] (fun X => seedR X x) := fun h X K w k => ⟨X, rfl, w, k⟩
theorem okM_seed {x : Int32} : okM tX6_seed [.int x] (fun X => seedR X x) := fun h X K w hO hT k => ⟨X, rfl, w, k⟩
theorem okX_image : okX tX0_image [] (fun X => imageR X) := fun h X K w k => ⟨X, rfl, w, k⟩
theorem okM_image : okM tX6_image [] (fun X => imageR X) := fun h X K w hO hT k => ⟨X, rfl, w, k⟩
theorem okX_restore : okX tX0_restore [] (fun X => restoreR X) := fun h X K w k => ⟨X, rfl, w, k⟩
theorem okM_restore : okM tX6_restore [] (fun X => restoreR X) := fun h X K w hO hT k => ⟨X, rfl, w, k⟩
theorem okX_seen {x y z : Int32} : okX tX0_seen [.int x, .int y, .int z] (fun X => (X, seenR X x y z)) := fun h X K w k => ⟨X, rfl, w, fun h' f w' => k h' f w'⟩
theorem okM_seen {x y z : Int32} : okM tX6_seen [.int x, .int y, .int z] (fun X => (X, seenR X x y z)) := fun h X K w hO hT k => ⟨X, rfl, w, hO, fun m' f => k _ (w.qq f).1 (w.qq f).2⟩
theorem okX_film {x y z : Int32} : okX tX0_filmP [.int x, .int y, .int z] (fun X => filmR X x y z) := fun h X K w k => ⟨X, rfl, w, k⟩
theorem okM_film {x y z : Int32} : okM tX6_film [.int x, .int y, .int z] (fun X => filmR X x y z) := fun h X K w hO hT k => ⟨X, rfl, w, hO, k⟩
theorem okX_sheet {x y z : Int32} : okX tX0_sheet [.int x, .int y, .int z] (fun X => sheetR X x y z) := fun h X K w k => ⟨X, rfl, w, k⟩
theorem okM_sheet {x y z : Int32} : okM tX6_sheet [.int x, .int y, .int z] (fun X => sheetR X x y z) := fun h X K w hO hT k => ⟨X, rfl, w, k⟩
theorem okX_drop {x : Int32} : okX tX0_drop [.int x] (fun X => dropR X x) := fun h X K w k => ⟨X, rfl, w, k⟩
theorem okM_drop {x : Int32} : okM tX6_drop [.int x] (fun X => dropR X x) := fun h X K w hO hT k => ⟨X, rfl, w, k⟩
theorem okX_item {x y z : Int32} {q : Int64} : okX tX0_item [.int x, .int y, .int z, .long q] (fun X => itemR X x y z q) := fun h X K w k => ⟨X, rfl, w, k⟩
theorem okM_item {x y z : Int32} {q : Int64} : okM tX6_item [.int x, .int y, .int z, .long q] (fun X => itemR X x y z q) := fun h X K w hO hT k => ⟨X, rfl, w, k⟩
theorem okX_copy {x y z u v : Int32} : okX tX0_copy [.int x, .int y, .int z, .int u, .int v] (fun X => copyR X x y z u v) := fun h X K w k => ⟨X, rfl, w, k⟩
theorem okM_copy {x y z u v : Int32} : okM tX6_copy [.int x, .int y, .int z, .int u, .int v] (fun X => copyR X x y z u v) := fun h X K w hO hT k => ⟨X, rfl, w, k⟩
