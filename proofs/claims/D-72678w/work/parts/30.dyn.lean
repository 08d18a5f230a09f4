/-! lambdas' objects made -/
set_option maxRecDepth 100000
def amTdyn1 (k : Nat) : amT := fun as h K => match as with
  | [.ref a] => K (some (.ref h.2.2.2.2)) (amWr (amNew h (k, 1)) h.2.2.2.2 0 (.ref a))
  | _ => False
def amTdyn2 (k : Nat) : amT := fun as h K => match as with
  | [.ref a, .int x] => K (some (.ref h.2.2.2.2)) (amWr (amWr (amNew h (k, 2)) h.2.2.2.2 0 (.ref a)) h.2.2.2.2 1 (.int x))
  | _ => False
def amTdyn3 (k : Nat) : amT := fun as h K => match as with
  | [.ref a, .ref b, .int x] => K (some (.ref h.2.2.2.2)) (amWr (amWr (amWr (amNew h (k, 3)) h.2.2.2.2 0 (.ref a)) h.2.2.2.2 1 (.ref b)) h.2.2.2.2 2 (.int x))
  | _ => False
theorem amTdyn1_d {k a : Nat} {h : amH} {K : Option Value → amH → Prop} : amTdyn1 k [.ref a] h K = K (some (.ref h.2.2.2.2)) (amWr (amNew h (k, 1)) h.2.2.2.2 0 (.ref a)) := rfl
theorem amTdyn2_d {k a : Nat} {x : Int32} {h : amH} {K : Option Value → amH → Prop} : amTdyn2 k [.ref a, .int x] h K = K (some (.ref h.2.2.2.2)) (amWr (amWr (amNew h (k, 2)) h.2.2.2.2 0 (.ref a)) h.2.2.2.2 1 (.int x)) := rfl
theorem amTdyn3_d {k a b : Nat} {x : Int32} {h : amH} {K : Option Value → amH → Prop} : amTdyn3 k [.ref a, .ref b, .int x] h K = K (some (.ref h.2.2.2.2)) (amWr (amWr (amWr (amNew h (k, 3)) h.2.2.2.2 0 (.ref a)) h.2.2.2.2 1 (.ref b)) h.2.2.2.2 2 (.int x)) := rfl
theorem amRep.push2 {G : amG} {h h' : amH} {H H' : Heap} {sh : Nat × Nat} (hR : amRep G h H) (h1 : h'.1 = va_up h.1 h.2.2.2.2 sh) (hn : h'.2.2.2.2 = h.2.2.2.2 + 1) (hne : ∀ i, i ≠ h.2.2.2.2 → h'.2.1 i = h.2.1 i ∧ h'.2.2.1 i = h.2.2.1 i ∧ h'.2.2.2.1 i = h.2.2.2.1 i) (hz : H'.size = H.size + 1) (ho : ∀ q, q < H.size → H'[q]? = H[q]?) (hc : amCell G h' h.2.2.2.2 H') : amRep G h' H' := by
  have h0 := hR.2.2.1
  refine ⟨fun i => ?_, by rw [hz, hR.2.1, hn]; omega, by rw [hn]; omega, fun i hi => ?_, hR.2.2.2.2.1, hR.2.2.2.2.2.mv2 (fun i hi => by rw [h1]; exact if_neg (by omega)) (fun i hi => have q := hne i (by omega); ⟨q.1, q.2.2⟩)⟩
  · by_cases hi : i = h.2.2.2.2
    · subst hi; exact hc
    · have e0 : h'.1 i = h.1 i := by rw [h1]; simp [va_up, hi]
      obtain ⟨e1, e2, e3⟩ := hne i hi
      by_cases hk : (h.1 i).1 < 90
      · exact (hR.1 i).kept e0 (ho _ (hR.lt hk)) e1 e2 e3
      · exact ⟨fun q => by rw [e0] at q; omega, fun _ q2 => by rw [e0] at q2; omega⟩
  · rw [hn] at hi
    have : h'.1 i = h.1 i := by rw [h1]; simp [va_up, show i ≠ h.2.2.2.2 by omega]
    rw [this]
    exact hR.2.2.2.1 i (by omega)
theorem amArgs3 {α : Type} {x : Array Nat} {f : Nat → Nat → Nat → Option α} {r : α} (h : Lambda.shapeOf?.match_15 (fun _ => Option α) x f (fun _ => none) = some r) : ∃ a b c, f a b c = some r := by
  obtain ⟨L⟩ := x
  cases L with
  | nil => cases h
  | cons a L =>
    cases L with
    | nil => cases h
    | cons b L =>
      cases L with
      | nil => cases h
      | cons c L =>
        cases L with
        | nil => exact ⟨a, b, c, h⟩
        | cons d L => cases h
/-- the fields of a class that was made -/
theorem amMade {s : State} {args : Array Value} {d c : ClassId} {σ : Lambda.Shape} {dk : Class} {T : Array FieldType} (h : Lambda.isMade { classPath := fun _ => none } s.vm d σ c = true) (hd : s.vm.classes[d]? = some dk) (hO : (Cond.instantiable "java/lang/Object" 0).before args s = true) (hlay : ((σ.file dk.name).bind (layoutFields · 0)).map (·.2.1) = some T) : ∃ k, s.vm.classes[c]? = some k ∧ k.instanceTypes = T ∧ k.kind = .ordinary := by
  obtain ⟨dk', k, ok, tk, file, cf, object, iface, t, lay, methods, target, found, h1, h2, h3, h4, h5, h6, h7, h8, h9, h10, h11, h12, h13, ⟨-, hkind, -⟩, -, hhid, -, -, -, -, -, ⟨hty, -⟩, -⟩ := Lambda.isMade_spec h
  have e := hd.symm.trans h1
  cases e
  obtain ⟨cO, kO, hfO, hkO, -, -, -, hsz⟩ := Cond.instantiable_spec hO
  have e := hfO.symm.trans h5
  cases e
  have e := hkO.symm.trans h7
  cases e
  have hemp : ok.instanceTypes = #[] := Array.eq_empty_of_size_eq_zero hsz
  rw [hsz] at h8
  rw [h4] at hlay
  simp only [Option.bind_some, h8, Option.map_some, Option.some.injEq] at hlay
  exact ⟨k, h2, by rw [hty, hemp, hlay]; simp, hkind⟩
/-- a lambda's site in its class file -/
theorem amShape {cf : ClassFile} {index : Nat} {σ : Lambda.Shape} (h : Lambda.shapeOf? cf index = some σ) : ∃ (b nt : Nat) (desc : String) (site : ClassFile.MethodDescriptor), cf.constantPool[index]? = some (.invokeDynamic b nt) ∧ cf.constantPool.nameAndType? nt = some (σ.name, desc) ∧ parseMethodDescriptor desc = some site ∧ site.parameters = σ.captured := by
  unfold Lambda.shapeOf? at h
  split at h
  · next b nt hc =>
    obtain ⟨entries, -, h⟩ := Option.bind_eq_some_iff.mp h
    obtain ⟨bm, -, h⟩ := Option.bind_eq_some_iff.mp h
    split at h
    · obtain ⟨_, -, h⟩ := Option.bind_eq_some_iff.mp h
      obtain ⟨_, _, _, h⟩ := amArgs3 h
      split at h
      · split at h
        · split at h
          · obtain ⟨⟨name, desc⟩, hnt, h⟩ := Option.bind_eq_some_iff.mp h
            obtain ⟨site, hsite, h⟩ := Option.bind_eq_some_iff.mp h
            split at h
            · obtain ⟨⟨implClass, implName, implDesc, implItf⟩, -, h⟩ := Option.bind_eq_some_iff.mp h
              obtain ⟨x1, -, h⟩ := Option.bind_eq_some_iff.mp h
              obtain ⟨x2, -, h⟩ := Option.bind_eq_some_iff.mp h
              obtain ⟨x3, -, h⟩ := Option.bind_eq_some_iff.mp h
              obtain ⟨x4, -, h⟩ := Option.bind_eq_some_iff.mp h
              obtain ⟨x5, -, h⟩ := Option.bind_eq_some_iff.mp h
              cases h
              exact ⟨b, nt, desc, site, hc, hnt, hsite, rfl⟩
            · cases h
          · cases h
        · cases h
      · cases h
    · cases h
  · cases h
/-- what a made object's heap must be -/
def dynOk (G : amG) (tys : List FieldType) (k n : Nat) (as : List Value) (h h' : amH) : Prop := h'.1 = va_up h.1 h.2.2.2.2 (k, n) ∧ h'.2.2.2.2 = h.2.2.2.2 + 1 ∧ (∀ i, i ≠ h.2.2.2.2 → h'.2.1 i = h.2.1 i ∧ h'.2.2.1 i = h.2.2.1 i ∧ h'.2.2.2.1 i = h.2.2.2.1 i) ∧ ((tys.zip (as.map (amV G))).map fun (t, v) => narrow t v) = as.map (amV G) ∧ (∀ (i : Nat) (v : Value), (as.map (amV G))[i]? = some v → ∃ t : FieldType, tys[i]? = some t ∧ fits t v = true) ∧ (as.map (amV G)).toArray = Array.ofFn (n := n) (fun j => amV G (amRd (amEt k j.val) h' h.2.2.2.2 j.val)) ∧ (∀ j, j < n → amMk (amEt k j) = 0 → fits (amEt k j) (.int (h'.2.1 h.2.2.2.2 j)) = true) ∧ (as.map fun v => v.category).sum ≤ 4
theorem amDyn {G : amG} {l : Launch} {own nm ds : String} {R : Room} {dR mcR msR idx pc n k : Nat} {σ : Lambda.Shape} {tys : List FieldType} {T : amT} (hRm : R = amRm dR mcR msR) (hk20 : 20 ≤ k ∧ k < 90)
    (hat : ∀ s, amKn G s → s.lambdaAt? ⟨own, nm, ds⟩ pc idx σ = some (G.2.1 k, none)) (hcap : σ.captured.length = n) (hlay : ((σ.file own).bind (layoutFields · 0)).map (·.2.1) = some tys.toArray)
    (hT : ∀ as h K, T as h K → as.length = n → ∃ h', K (some (.ref h.2.2.2.2)) h' ∧ dynOk G tys k n as h h') : amSiteP pc G l own nm ds R (.invokedynamic idx) 5 n 1 n T := by
  intro cc nL p e s m args below meth c Q ls as st h k0 z K hC hnm hd hT0 hn hcat hk hz kk H locs lsv hR hS hL T1 hH X
  obtain ⟨h', hK, g1, g2, g3, g4, g5, g6, g7, g8⟩ := hT as h K hT0 hn
  obtain ⟨hx, hb, hml, hown, hts, hKn, hb0⟩ := hC
  obtain ⟨m', kS, cfS, i0, p0, lk, hm', hkS, hcfS, hshape, -, hfind, hmade, hcan, hlk⟩ := State.lambdaAt?_spec (hat s hKn)
  cases hnm.2.symm.trans hm'
  obtain ⟨rfl, -⟩ : lk = .makes (G.2.1 k) ∧ True := by
    rcases hlk with ⟨a, cell, -, h, -⟩ | h
    · cases h
    · exact ⟨h.1, trivial⟩
  obtain ⟨kS', hkS', hnameS⟩ := className_of_methodNamed hnm.2
  cases hkS.symm.trans hkS'
  obtain ⟨bsm, nt, desc, site, hc, hnt, hsite, hpar⟩ := amShape hshape
  obtain ⟨kK, hkK, htyK, hkindK⟩ := amMade (args := args) hmade hkS (hts _ q1730) (by rw [hnameS]; exact hlay)
  have hslots : ((kK.instanceTypes.toList.zip (as.map (amV G))).map fun (t, v) => narrow t v) = as.map (amV G) := by
    rw [htyK]
    exact g4
  obtain ⟨X1, st1⟩ := X.lambdaMakes hx (g := F0 m pc lsv ((as.reverse ++ st).map (amV G))) rfl (by rw [hml]; exact hL.2.1) (by rw [hb]; exact hd) (vals := as.map (amV G)) (rest := st.map (amV G))
    hkS hfind hcfS hc hnt (parseLong_of_parse hsite) (by rw [hpar, hcap, List.length_map]; exact hn) (amStk G as st) hkK
    (by
      rw [X.admits.platform, amStk, hRm, List.map_append, List.sum_append, List.map_reverse, List.sum_reverse]
      show 2 * 0 + (((as.map (amV G)).map fun v => v.category).sum + ((st.map (amV G)).map fun v => v.category).sum) + 3072 ≤ 12000 + 64 * dR
      rw [amCats, amCats]
      omega) (by omega) (by rw [hslots, List.length_map]; omega)
    (fun i v hv => by
      rw [hslots] at hv
      obtain ⟨t, t1, t2⟩ := g5 i v (by simpa using hv)
      simp [State.fitsSlot, State.slotType?, hkK, hkindK, htyK, t1, t2])
  rw [hslots] at X1 st1
  have hsz : (as.map (amV G)).toArray.size = n := by simp; exact hn
  rw [hsz] at X1
  rw [g6] at X1 st1
  generalize hC : ({ cls := G.2.1 k, slots := Array.ofFn (n := n) (fun j => amV G (amRd (amEt k j.val) h' h.2.2.2.2 j.val)), vm := .none } : Cell) = cell at X1 st1
  have hp : (T1.pushCell cell).heap = H.push cell := by rw [← hH]; rfl
  have hR' : amRep G h' (H.push cell) := by
    refine hR.push2 g1 g2 g3 (by simp) (fun q hq => by rw [Array.getElem?_push]; simp [show q ≠ H.size by omega]) ⟨fun q => ?_, fun _ _ => ?_⟩
    · rw [g1] at q
      simp [va_up] at q
      omega
    · have e : h'.1 h.2.2.2.2 = (k, n) := by rw [g1]; simp [va_up]
      rw [e]
      refine ⟨amAV.of ?_, fun j hj hm => g7 j hj hm⟩
      rw [hR.ad, ← hC]
      simp
      rfl
  have hS' : va_S (amA G) s.heap (H.push cell) locs := ⟨Nat.le_trans hS.1 (by simp), fun x h1 h2 => by
    rw [Array.getElem?_push, if_neg (by have := hS.1; omega)]
    exact hS.2.1 x h1 h2, hS.2.2⟩
  obtain ⟨t, a1, b1⟩ := kk _ _ hK (H.push cell) locs lsv hR' hS' hL _ hp X1
  refine ⟨t, st1 t ?_, b1⟩
  have e9 : ((some (Value.ref h.2.2.2.2)).toList ++ st).map (amV G) = .ref T1.heap.size :: st.map (amV G) := by simp [amV, hR.ad, hH]
  rw [e9] at a1
  exact a1
section DYN7
variable {G : amG} {l : Launch} {R : Room} {dR mcR msR : Nat}
theorem amDyn1 {own nm ds : String} {idx pc k : Nat} {σ : Lambda.Shape} {C : String} (hRm : R = amRm dR mcR msR) (hk20 : k = 20 ∨ k = 21 ∨ k = 22 ∨ k = 23) (hat : ∀ s, amKn G s → s.lambdaAt? ⟨own, nm, ds⟩ pc idx σ = some (G.2.1 k, none)) (hcap : σ.captured.length = 1) (hlay : ((σ.file own).bind (layoutFields · 0)).map (·.2.1) = some #[.object C]) : amSiteP pc G l own nm ds R (.invokedynamic idx) 5 1 1 1 (amTdyn1 k) := by
  refine amDyn (tys := [.object C]) hRm (by omega) hat hcap hlay (fun as h K hT hn => ?_)
  match as, hT with
  | [.ref a], hT =>
  refine ⟨_, hT, rfl, rfl, fun i hi => ⟨by simp [amWr, amNew, va_up, hi], by simp [amWr, amNew, va_up, hi], by simp [amWr, amNew, va_up, hi]⟩, rfl, fun i v hv => ?_, ?_, fun j hj hm => ?_, by simp [Value.category]⟩
  · match i, hv with
    | 0, hv => simp at hv; subst hv; exact ⟨_, rfl, rfl⟩
    | i + 1, hv => simp at hv
  · have e : amEt k 0 = .object "java/lang/Object" := by rcases hk20 with e | e | e | e <;> subst e <;> rfl
    apply Array.ext
    · simp
    · intro i h1 h2
      have : i = 0 := by simp at h1; exact h1
      subst this
      simp [e, amRd, amMk, amWr, amNew, va_up, va_rf]
  · have : j = 0 := by omega
    subst this
    rcases hk20 with e | e | e | e <;> subst e <;> cases hm
theorem amDyn2 {own nm ds : String} {idx pc k : Nat} {σ : Lambda.Shape} {C : String} (hRm : R = amRm dR mcR msR) (hk20 : k = 24 ∨ k = 25) (hat : ∀ s, amKn G s → s.lambdaAt? ⟨own, nm, ds⟩ pc idx σ = some (G.2.1 k, none)) (hcap : σ.captured.length = 2) (hlay : ((σ.file own).bind (layoutFields · 0)).map (·.2.1) = some #[.object C, .int]) : amSiteP pc G l own nm ds R (.invokedynamic idx) 5 2 1 2 (amTdyn2 k) := by
  refine amDyn (tys := [.object C, .int]) hRm (by omega) hat hcap hlay (fun as h K hT hn => ?_)
  match as, hT with
  | [.ref a, .int x], hT =>
  have e0 : amEt k 0 = .object "java/lang/Object" := by rcases hk20 with e | e <;> subst e <;> rfl
  have e1 : amEt k 1 = .int := by rcases hk20 with e | e <;> subst e <;> rfl
  refine ⟨_, hT, rfl, rfl, fun i hi => ⟨by simp [amWr, amNew, va_up, hi], by simp [amWr, amNew, va_up, hi], by simp [amWr, amNew, va_up, hi]⟩, rfl, fun i v hv => ?_, ?_, fun j hj hm => ?_, by simp [Value.category]⟩
  · match i, hv with
    | 0, hv => simp at hv; subst hv; exact ⟨_, rfl, rfl⟩
    | 1, hv => simp at hv; subst hv; exact ⟨_, rfl, rfl⟩
    | i + 2, hv => simp at hv
  · apply Array.ext
    · simp
    · intro i h1 h2
      rcases (show i = 0 ∨ i = 1 by simp at h1; omega) with e | e
      · subst e
        simp [e0, amRd, amMk, amWr, amNew, va_up, va_rf]
      · subst e
        simp [e1, amRd, amMk, amWr, amNew, va_up]
  · rcases (show j = 0 ∨ j = 1 by omega) with e | e
    · subst e; rw [e0] at hm; cases hm
    · subst e; rw [e1]; rfl
theorem amDyn3 {own nm ds : String} {idx pc : Nat} {σ : Lambda.Shape} {C D : String} (hRm : R = amRm dR mcR msR) (hat : ∀ s, amKn G s → s.lambdaAt? ⟨own, nm, ds⟩ pc idx σ = some (G.2.1 26, none)) (hcap : σ.captured.length = 3) (hlay : ((σ.file own).bind (layoutFields · 0)).map (·.2.1) = some #[.object C, .object D, .int]) : amSiteP pc G l own nm ds R (.invokedynamic idx) 5 3 1 3 (amTdyn3 26) := by
  refine amDyn (tys := [.object C, .object D, .int]) hRm (by omega) hat hcap hlay (fun as h K hT hn => ?_)
  match as, hT with
  | [.ref a, .ref b, .int x], hT =>
  have e0 : amEt 26 0 = .object "java/lang/Object" := rfl
  have e1 : amEt 26 1 = .object "java/lang/Object" := rfl
  have e2 : amEt 26 2 = .int := rfl
  refine ⟨_, hT, rfl, rfl, fun i hi => ⟨by simp [amWr, amNew, va_up, hi], by simp [amWr, amNew, va_up, hi], by simp [amWr, amNew, va_up, hi]⟩, rfl, fun i v hv => ?_, ?_, fun j hj hm => ?_, by simp [Value.category]⟩
  · match i, hv with
    | 0, hv => simp at hv; subst hv; exact ⟨_, rfl, rfl⟩
    | 1, hv => simp at hv; subst hv; exact ⟨_, rfl, rfl⟩
    | 2, hv => simp at hv; subst hv; exact ⟨_, rfl, rfl⟩
    | i + 3, hv => simp at hv
  · apply Array.ext
    · simp
    · intro i h1 h2
      rcases (show i = 0 ∨ i = 1 ∨ i = 2 by simp at h1; omega) with e | e | e
      · subst e
        simp [e0, amRd, amMk, amWr, amNew, va_up, va_rf]
      · subst e
        simp [e1, amRd, amMk, amWr, amNew, va_up, va_rf]
      · subst e
        simp [e2, amRd, amMk, amWr, amNew, va_up]
  · rcases (show j = 0 ∨ j = 1 ∨ j = 2 by omega) with e | e | e
    · subst e; rw [e0] at hm; cases hm
    · subst e; rw [e1] at hm; cases hm
    · subst e; rw [e2]; rfl
theorem lay20 : (((sgR "lambda$new$0").file "ReadingStages").bind (layoutFields · 0)).map (·.2.1) = some #[.object "ReadingStages"] := by decide +kernel
theorem lay21 : (((sgR "lambda$new$1").file "ReadingStages").bind (layoutFields · 0)).map (·.2.1) = some #[.object "ReadingStages"] := by decide +kernel
theorem lay22 : (((sgR "lambda$new$2").file "ReadingStages").bind (layoutFields · 0)).map (·.2.1) = some #[.object "ReadingStages"] := by decide +kernel
theorem lay23 : (((sgA "lambda$layBest$3" [.object "ReadingStages"] [.object "ReadingStages$Shelf"]).file "ReadingStages").bind (layoutFields · 0)).map (·.2.1) = some #[.object "ReadingStages"] := by decide +kernel
theorem lay24 : (((sgA "lambda$many$4" [.object "ReadingStages", .int] [.int, .object "ReadingStages$Shelf"]).file "ReadingStages").bind (layoutFields · 0)).map (·.2.1) = some #[.object "ReadingStages", .int] := by decide +kernel
theorem lay25 : (((sgA "lambda$fit$5" [.object "ReadingStages", .int] [.int, .object "ReadingStages$Shelf"]).file "ReadingStages").bind (layoutFields · 0)).map (·.2.1) = some #[.object "ReadingStages", .int] := by decide +kernel
theorem lay26 : (((sgA "lambda$seen$6" [.object "ReadingStages", .object "ReadingStages$Sheet", .int] [.object "ReadingStages$Sheet", .int, .object "ReadingStages$Shelf"]).file "ReadingStages").bind (layoutFields · 0)).map (·.2.1) = some #[.object "ReadingStages", .object "ReadingStages$Sheet", .int] := by decide +kernel

theorem amSiteDyn92 (hRm : R = amRm dR mcR msR) : amSiteP 235 G l "ReadingStages" "<init>" "()V" R (.invokedynamic 92) 5 1 1 1 (amTdyn1 20) := amDyn1 hRm (Or.inl rfl) (fun s h => h.2.2.2.2.2.2.2.2.1 _ (List.mem_of_getElem? (l := amLm) (i := 0) rfl)) rfl lay20
theorem amSiteDyn95 (hRm : R = amRm dR mcR msR) : amSiteP 247 G l "ReadingStages" "<init>" "()V" R (.invokedynamic 95) 5 1 1 1 (amTdyn1 21) := amDyn1 hRm (Or.inr (Or.inl rfl)) (fun s h => h.2.2.2.2.2.2.2.2.1 _ (List.mem_of_getElem? (l := amLm) (i := 1) rfl)) rfl lay21
theorem amSiteDyn96 (hRm : R = amRm dR mcR msR) : amSiteP 259 G l "ReadingStages" "<init>" "()V" R (.invokedynamic 96) 5 1 1 1 (amTdyn1 22) := amDyn1 hRm (Or.inr (Or.inr (Or.inl rfl))) (fun s h => h.2.2.2.2.2.2.2.2.1 _ (List.mem_of_getElem? (l := amLm) (i := 2) rfl)) rfl lay22
theorem amSiteDyn195 (hRm : R = amRm dR mcR msR) : amSiteP 20 G l "ReadingStages" "layBest" "()V" R (.invokedynamic 195) 5 1 1 1 (amTdyn1 23) := amDyn1 hRm (Or.inr (Or.inr (Or.inr rfl))) (fun s h => h.2.2.2.2.2.2.2.2.1 _ (List.mem_of_getElem? (l := amLm) (i := 3) rfl)) rfl lay23
theorem amSiteDyn223 (hRm : R = amRm dR mcR msR) : amSiteP 15 G l "ReadingStages" "many" "(I)I" R (.invokedynamic 223) 5 2 1 2 (amTdyn2 24) := amDyn2 hRm (Or.inl rfl) (fun s h => h.2.2.2.2.2.2.2.2.1 _ (List.mem_of_getElem? (l := amLm) (i := 4) rfl)) rfl lay24
theorem amSiteDyn229 (hRm : R = amRm dR mcR msR) : amSiteP 15 G l "ReadingStages" "fit" "(I)I" R (.invokedynamic 229) 5 2 1 2 (amTdyn2 25) := amDyn2 hRm (Or.inr rfl) (fun s h => h.2.2.2.2.2.2.2.2.1 _ (List.mem_of_getElem? (l := amLm) (i := 5) rfl)) rfl lay25
theorem amSiteDyn460 (hRm : R = amRm dR mcR msR) : amSiteP 97 G l "ReadingStages" "seen" "(III)I" R (.invokedynamic 460) 5 3 1 3 (amTdyn3 26) := amDyn3 hRm (fun s h => h.2.2.2.2.2.2.2.2.1 _ (List.mem_of_getElem? (l := amLm) (i := 6) rfl)) rfl lay26
end DYN7
/-! heaps that grow -/
/-- nothing of an old cell has changed -/
def amSame (h h2 : amH) (i : Nat) : Prop := h2.1 i = h.1 i ∧ h2.2.1 i = h.2.1 i ∧ h2.2.2.1 i = h.2.2.1 i ∧ h2.2.2.2.1 i = h.2.2.2.1 i
theorem amSame.rf (h : amH) (i : Nat) : amSame h h i := ⟨rfl, rfl, rfl, rfl⟩
theorem amSame.tr {h h2 h3 : amH} {i : Nat} (a : amSame h h2 i) (b : amSame h2 h3 i) : amSame h h3 i := ⟨b.1.trans a.1, b.2.1.trans a.2.1, b.2.2.1.trans a.2.2.1, b.2.2.2.trans a.2.2.2⟩
theorem amNew_same {h : amH} {s : Nat × Nat} {i : Nat} (hi : i < h.2.2.2.2) : amSame h (amNew h s) i := by
  have : i ≠ h.2.2.2.2 := by omega
  exact ⟨if_neg this, if_neg this, if_neg this, if_neg this⟩
theorem amWr_same {h : amH} {a j i : Nat} {v : Value} (hi : i ≠ a) : amSame h (amWr h a j v) i := by
  cases v <;> exact ⟨by simp [amWr, va_up, hi], by simp [amWr, va_up, hi], by simp [amWr, va_up, hi], by simp [amWr, va_up, hi]⟩
theorem amNew_sh (h : amH) (s : Nat × Nat) : (amNew h s).1 h.2.2.2.2 = s := if_pos rfl
theorem amNew_n (h : amH) (s : Nat × Nat) : (amNew h s).2.2.2.2 = h.2.2.2.2 + 1 := rfl
theorem amDyn1_same {h : amH} {k a i : Nat} (hi : i < h.2.2.2.2) : amSame h (amWr (amNew h (k, 1)) h.2.2.2.2 0 (.ref a)) i := (amNew_same hi).tr (amWr_same (by omega))
theorem amDyn2_same {h : amH} {k a i : Nat} {x : Int32} (hi : i < h.2.2.2.2) : amSame h (amWr (amWr (amNew h (k, 2)) h.2.2.2.2 0 (.ref a)) h.2.2.2.2 1 (.int x)) i := ((amNew_same hi).tr (amWr_same (by omega))).tr (amWr_same (by omega))
theorem amDyn3_same {h : amH} {k a b i : Nat} {x : Int32} (hi : i < h.2.2.2.2) : amSame h (amWr (amWr (amWr (amNew h (k, 3)) h.2.2.2.2 0 (.ref a)) h.2.2.2.2 1 (.ref b)) h.2.2.2.2 2 (.int x)) i := (((amNew_same hi).tr (amWr_same (by omega))).tr (amWr_same (by omega))).tr (amWr_same (by omega))
theorem rsAt.same {h h2 : amH} (q : rsAt h) (e : ∀ i : Nat, i < 124 → amSame h h2 i) : rsAt h2 := q.mv (fun i hi => (e i hi).1) (fun i hi _ _ _ => (e i hi).2.2.2)
